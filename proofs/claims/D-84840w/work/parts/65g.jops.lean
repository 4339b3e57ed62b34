/-! RUNS, BOTH: numbers are reckoned, parts of pairs are taken -/
section JOPS
variable {L : Nat} {xs : Nat → Int32} {σ σ' σ1 τ τ' τ1 : tvS} {D : pgD} {m : Nat} {rg : rgD} {cd : cdD} {T : tsD} {vd W : Nat → Nat} {M wd pgs ev N : Nat} {G : tG} {rr : Nat → Nat} {R : Nat → Int32} {cs : Nat} {X X' : dyD} {K K' : List (Nat × Nat × Nat)} {i : Nat} {E : Nat → trE} {n n' : Nat} {ty : Nat → trE} {nr nr' : Nat} {av : Nat → Prop} {Lv dd st w p b a κ q c : Nat} {fn fn' : Nat → Nat × Nat} {s s' : cSt} {oa : Nat → Nat} {fil mt : Nat} {pl : Nat → Nat} {pg : Nat → List Nat} {fl : List Nat} {bk : Nat → Nat} {d M0 : Nat} {x : obD} {t : trE}
/-- the model's run is over -/
theorem RMm.over {S F : List Nat} (h : RMm D rg cd vd N G rr wd pgs ev X K i n nr fn s st oa fil mt τ) (w : frM S F τ τ1) (hs : (S.all fun k => inL [207, 208, 209, 210, 211, 212, 213, 214, 215] k) = true) (hf : (F.all fun k => inL [130, 131, 132, 135, 139, 167, 168] k) = true) (h130 : rd τ1 123 130 = 0) (hE : MEn c τ1 τ') : MVR st c s X.B X.no mt τ' ∧ frM RAr RFl τ τ' ∧ RSm D rg cd vd N G rr τ' := by
  have w' : frM [207, 208, 209, 210, 211, 212, 213, 214, 215] [130, 131, 132, 135, 139, 167, 168] τ τ1 := w.sub hs hf
  obtain ⟨h1, h2, h3, ⟨m1, m2, ⟨m3, k1, k2, k3, k4, k5, k6, k7, k8⟩, m4, _⟩, h5⟩ := h
  obtain ⟨g1, g2⟩ := hE.over (s := s) (B := X.B) (no := X.no) (mt := mt) (st := st) w' rfl rfl ⟨by rw [w'.2 122 rfl]; exact k1, by rw [w'.2 123 rfl]; exact k2, by rw [w'.2 125 rfl]; exact k3, by rw [w'.2 126 rfl]; exact k4, by rw [w'.2 127 rfl]; exact k5, by rw [w'.2 128 rfl]; exact k6, ⟨by rw [w'.2 129 rfl]; exact k7.1, k7.2⟩, h130⟩ (by rw [w'.2 124 rfl]; exact m2.1) (by rw [w'.2 162 rfl]; exact m4.1)
  exact ⟨g1, g2, h1.men w' rfl rfl rfl hE⟩
theorem RMm.h130 (h : RMm D rg cd vd N G rr wd pgs ev X K i n nr fn s st oa fil mt τ) : rd τ 123 130 = 0 := h.2.2.2.1.2.2.1.2.2.2.2.2.2.2.2
/-- what is known when what comes behind a part's parts is done -/
theorem RGI.on (hE : ENV D m rg cd T vd W M wd pgs ev) (hG : RGI D rg cd T vd W M wd X ((w, p, b) :: K) i E n ty nr av Lv dd st) (hw : 1 ≤ w ∧ w ≤ 6) : (X.ff i ≤ D.fc ∧ D.bP (X.ff i) ≤ p ∧ p < D.bP (X.ff i + 1) ∧ p < D.bP (D.fc + 1) ∧ p < 4001) ∧ PFp D m (X.ff i) p ∧ STy D rg cd T (X.ff i) p ∧ SVa D cd vd p ∧ CONS T.g E ∧ PRT D rg cd T vd X i E ty nr av Lv dd p p ∧ WKK w (D.K p) ∧ n = Lv + wkN D w p ∧ X.bs i + cd.hg p = Lv ∧ ∀ j k, j < wkN D w p → (D.kd p)[j]? = some k → ty (Lv + j) = E (T.oC k) := by
  obtain ⟨o1, o2, o3, o4, o5, o6, o7⟩ := TK.on hG.1 hw
  obtain ⟨⟨f1, f2, f3, f4, f5⟩, pc, ps, pp⟩ := id o2
  obtain ⟨b1, b2⟩ := hE.1.1.pb f1 f3
  obtain ⟨s1, s2⟩ := hE.1.2.2.2.2.1 _ p f1 f2 f3
  exact ⟨⟨f1, f2, f3, b1, b2⟩, (hE.1.1.2.2 _ f1).2.2.1 p f2 f3, s1, s2, pc.1, o2, o1, o3, o4, o6⟩
/-- what a part of an object leads to, the object leads to -/
theorem ROb.up {hp : Nat → obD} {no o o' : Nat} {w : vaL} (o1 : 1 ≤ o) (o2 : o ≤ no) (hw : w ∈ (hp o).co) (h : ROb hp no w o') : ROb hp no (2, i32 (o : Int)) o' := by
  obtain ⟨k, h⟩ := h
  exact ⟨k + 1, o, w, rfl, o1, o2, hw, h⟩
theorem LVv.part {hp : Nat → obD} {no o nr : Nat} {ser : Nat → Nat} {w : vaL} (hH : HOK hp no) (o1 : 1 ≤ o) (o2 : o ≤ no) (hw : w ∈ (hp o).co) (h : LVv hp no ser nr (2, i32 (o : Int))) : LVv hp no ser nr w := ⟨(hH o o1 o2 w hw).mono (by omega), fun o' ho => h.2 o' (ROb.up o1 o2 hw ho)⟩
/-- the top of the stack is other, all else stays -/
theorem RCO.part {o : Nat} {w : vaL} (ho : X.sv (n - 1) = (2, i32 (o : Int))) (hn : 1 ≤ n) (o1 : 1 ≤ o) (o2 : o ≤ X.no) (hw : w ∈ (X.hp o).co) (hX : X' = (uq X.sv (n - 1) w, X.2)) : ∀ o', RCO X' n o' → RCO X n o' := fun o' h => by
  obtain ⟨k, h1, h2⟩ := h
  rw [hX] at h2
  have h2 : ROb X.hp X.no (uq X.sv (n - 1) w k) o' := h2
  by_cases e : k = n - 1
  · rw [e, uq_self] at h2
    exact ⟨n - 1, by omega, by rw [ho]; exact ROb.up o1 o2 hw h2⟩
  · rw [uq_ne e] at h2; exact ⟨k, h1, h2⟩
/-- a part of a pair is taken -/
theorem J_take (hE : ENV D m rg cd T vd W M wd pgs ev) (hG : RGI D rg cd T vd W M wd X ((1, p, b) :: K) i E n ty nr av Lv dd st) (hM : RMm D rg cd vd N G rr wd pgs ev X ((1, p, b) :: K) i n nr fn s st oa fil mt τ) (hC : RMc D rg cd R cs wd pgs ev X i n nr fn s st pl pg fl bk a σ) (hA : AT D rg cd R cs X.ff bk ((1, p, b) :: K) i a n) (hmt : mt ≤ M0 + 3 * X.no ∧ s.cp ≤ M0 + 80001) (hκ : D.K p = 5 ∨ D.K p = 6) :
    JST L xs d D rg cd T vd W M N G rr R cs wd pgs ev M0 st (wtK ((1, p, b) :: K)) σ τ := by
  have hkl := hG.kle hE hM.2.2.1.2.2.1
  have hkl : K.length + 1 + 20 < 130000 := hkl
  obtain ⟨_, _, hwt⟩ := hG.opt (by omega)
  obtain ⟨⟨f1, f2, f3, b1, b2⟩, hPF, hS, hV, hcon, hP, hW, o3, o4, o6⟩ := hG.on hE (by omega)
  obtain ⟨k0, hkd⟩ := kd_one (D := D) (p := p) (by rw [hPF.2.2.1 (by omega)]; rcases hκ with e | e <;> rw [e] <;> rfl)
  have hw2 : wkN D 1 p = 1 := by unfold wkN; rw [if_neg (by omega), hkd]; rfl
  rw [hw2] at o3 o6
  have v1 := hG.2.2.1 (n - 1) (by omega)
  have t1 : ty (n - 1) = E (T.oC k0) := by rw [show n - 1 = Lv + 0 by omega]; exact o6 0 k0 (by omega) (by rw [hkd]; rfl)
  have hs := hS.2.2.2.2.1 k0 hkd
  have ki2 : T.g.ki (T.oC k0) = 2 := hκ.elim (fun e => (hs.1 e).1) (fun e => (hs.2.1 e).1)
  have hv1 := v1.1
  rw [t1] at hv1
  obtain ⟨o, u0, u1, e1, e2, e3, e4, e5, e6, e7, e8, e9⟩ := hv1.is_pair (by rw [hcon.k (by omega) (by omega), ki2])
  rw [hcon.a (by omega) (by omega)] at e8
  rw [hcon.b (by omega)] at e9
  obtain ⟨qq, w, hq, hw, hwT⟩ : ∃ (qq : Nat) (w : vaL), ((D.K p = 5 ∧ qq = 0) ∨ (D.K p = 6 ∧ qq = 1)) ∧ (X.hp o).co[qq]? = some w ∧ VTy D rg cd T X.hp X.no X.B w (E (T.oC p)) := by
    rcases hκ with e | e
    · exact ⟨0, u0, .inl ⟨e, rfl⟩, by rw [e6]; rfl, by rw [← (hs.1 e).2]; exact e8⟩
    · exact ⟨1, u1, .inr ⟨e, rfl⟩, by rw [e6]; rfl, by rw [← (hs.2.1 e).2]; exact e9⟩
  have hmem := List.mem_of_getElem? hw
  obtain ⟨r1, r2⟩ := (v1.2.1.2 o (by rw [e1]; exact ⟨0, rfl, e2, e3⟩)).1
  have hno := hG.no_le
  have hw2' : w.1 ≤ 2 := (hG.2.2.2.1.2.1 o e2 e3).1.2.2.2.2.1 w hmem
  obtain ⟨X', hX⟩ : ∃ X' : dyD, X' = (uq X.sv Lv w, X.2) := ⟨_, rfl⟩
  have hRn : ∀ o', RCO X' (Lv + 1) o' → RCO X n o' := fun o' h => RCO.part (n := n) (X' := X') e1 (by omega) e2 e3 hmem (by rw [hX, show n - 1 = Lv by omega]) o' (by rw [o3]; exact h)
  have hG' := hG.done (X' := X') (v := w) (by omega) (by omega) ⟨hwT, by have := v1.2.1; rw [e1] at this; exact this.part hG.2.2.2.1.1 e2 e3 hmem, hw2'⟩ hX
  -- the model
  obtain ⟨m1, m2⟩ := hM.pop
  have e151 := (m1.1.2.2.1 p b1).1
  obtain ⟨τ1, u1, u2, u3, u4⟩ := take_m (L := L) (xs := xs) (w := w) (q := qq) (o := o) (m1.1.2.2.1 p b1) (by omega) hq m1.2.2.2.1 (by omega) hno e1 e2 e3 r1 r2 hw (d + 3)
  have hr : rn L xs (d + 6) 399 0 [.ref 123, .int (i32 ((1 : Nat) : Int)), .int (i32 (p : Int)), .int (i32 (b : Int))] [] (wr τ 123 135 (i32 (K.length : Int))) = some (.inl none, τ1) := by
    have ek : mKd (D.K p) = 6 := by rcases hκ with e | e <;> rw [e] <;> rfl
    rw [e399_0, swk_of (sw399 1 (by omega)), show t399 1 = 48 from rfl, e399_48, c_in (by omega) (by omega) (by omega), i32_ixn (by omega), e151, ek, show pv_c2 .eq (i32 ((6 : Nat) : Int)) 5 = false from rfl, cond_false, c_in (by omega) (by omega) (by omega), show pv_c2 .ne (i32 ((6 : Nat) : Int)) 9 = true from rfl, cond_true, e399_92, c_in (by omega) (by omega) (by omega), i32_ixn (by omega), e151, ek, show pv_c2 .ne (i32 ((6 : Nat) : Int)) 8 = true from rfl, cond_true, e399_116, bV_ok u1, e399_268]
  have u2 : MSt n (uq X.sv (n - 1) w) τ1 := u2
  rw [o3, show Lv + 1 - 1 = Lv from rfl] at u2
  have hMk : MSk fn s X' (Lv + 1) nr st oa fil mt pgs wd ev τ1 := m1.2.2.2.1.any (X' := X') (by rw [hX]; exact u2) u3 rfl rfl u4 (by rw [hX]; rfl) (by rw [hX]; rfl) (by rw [hX]; rfl) (by rw [hX]; rfl) hRn
  -- the component
  obtain ⟨a1, a2⟩ := hA.op (by omega)
  rw [if_pos hκ, o3] at a2
  have hlt := AT.lt _ _ _ _ a2
  have hC' := hC.next
  obtain ⟨σ1, z1, z2, z3⟩ := ctake_c (L := L) (xs := xs) (w := w) (q := qq) (o := o) hC'.2.1 (hG.gch hE) (by omega) e1 e2 e3 hw (by omega) hw2' (d + 7)
  rw [o3, show Lv + 1 - 1 = Lv from rfl] at z2
  have hop : rn L xs (d + 11) 262 (t262 (10 + qq)) [.ref 117, .int (i32 ((10 + qq : Nat) : Int)), jv, jv] [] (wr σ 117 8 (i32 ((a + 1 : Nat) : Int))) = some (.inl none, σ1) := by
    rcases hq with ⟨_, e⟩ | ⟨_, e⟩
    · subst e
      rw [show t262 (10 + 0) = 254 from rfl, e262_254 (d + 10), show (1 : Int32) = i32 ((0 + 1 : Nat) : Int) from rfl, bV_ok z1, e262_386]
    · subst e
      rw [show t262 (10 + 1) = 262 from rfl, e262_262 (d + 10), show (2 : Int32) = i32 ((1 + 1 : Nat) : Int) from rfl, bV_ok z1, e262_386]
  have hRa : rd σ 95 a = i32 ((10 + qq : Nat) : Int) := by
    rw [hC.at', a1]
    rcases hq with ⟨e, e'⟩ | ⟨e, e'⟩
    · rw [if_pos e, e']; rfl
    · rw [if_neg (by omega), if_pos e, e']; rfl
  have w1 : frW [100, 101, 102, 117] σ σ1 := (frW_wr rfl).trans (z3.sub rfl)
  have q1 : ∀ z, z ≠ 8 → rd σ1 117 z = rd σ 117 z := fun z hz => by rw [z3.1 117 rfl, wr_nei hz]
  have hC1 : RMc D rg cd R cs wd pgs ev X' i (Lv + 1) nr fn s st pl pg fl bk (a + 1) σ1 := hC.stack (by rw [hX]; exact z2) w1 q1 (by rw [z3.1 117 rfl, wr_self]) (by rw [hX]; rfl) (by rw [hX]; rfl) (by rw [hX]; rfl) (by rw [hX]; rfl) (by rw [hX]; rfl) hRn
  exact ⟨σ1, τ1, mgo_on hM.2.1 hM.2.2.2.2 (by omega) (by omega) hr, w1.sub rfl, (m2.sub rfl rfl).trans (u3.sub rfl rfl), .inl ⟨cgo_on hC.1 hC.2.2.2.2.1 (by omega) (κ := 10 + qq) hRa (by omega) hop (by rw [q1 5 (by decide)]; exact hC.2.2.2.1.2.2.2.2.1), wtK K, hwt, X', K, i, E, Lv + 1, _, nr, av, Lv, dd, fn, s, oa, fil, mt, pl, pg, fl, bk, a + 1, hG', ⟨m1.1.fr u3 rfl rfl rfl, m1.2.1.fr u3 rfl rfl rfl rfl, (m1.2.2.1.fr u3 rfl rfl rfl rfl rfl rfl).same (by rw [hX]; rfl) (by rw [hX]; rfl) (by rw [hX]; rfl), hMk, by rw [u3.2 122 rfl]; exact m1.2.2.2.2⟩, hC1, by rw [hX]; exact a2, by rw [hX]; exact hmt, rfl⟩⟩
/-- numbers are reckoned -/
theorem J_reck (hE : ENV D m rg cd T vd W M wd pgs ev) (hG : RGI D rg cd T vd W M wd X ((1, p, b) :: K) i E n ty nr av Lv dd st) (hM : RMm D rg cd vd N G rr wd pgs ev X ((1, p, b) :: K) i n nr fn s st oa fil mt τ) (hC : RMc D rg cd R cs wd pgs ev X i n nr fn s st pl pg fl bk a σ) (hA : AT D rg cd R cs X.ff bk ((1, p, b) :: K) i a n) (hmt : mt ≤ M0 + 3 * X.no ∧ s.cp ≤ M0 + 80001) (hκ : 8 ≤ D.K p ∧ D.K p ≤ 15) :
    JST L xs d D rg cd T vd W M N G rr R cs wd pgs ev M0 st (wtK ((1, p, b) :: K)) σ τ := by
  have hkl := hG.kle hE hM.2.2.1.2.2.1
  have hkl : K.length + 1 + 20 < 130000 := hkl
  obtain ⟨_, _, hwt⟩ := hG.opt (by omega)
  obtain ⟨⟨f1, f2, f3, b1, b2⟩, hPF, hS, hV, hcon, hP, hW, o3, o4, o6⟩ := hG.on hE (by omega)
  have hκ' : D.K p = 8 ∨ D.K p = 9 ∨ D.K p = 10 ∨ D.K p = 11 ∨ D.K p = 12 ∨ D.K p = 13 ∨ D.K p = 14 ∨ D.K p = 15 := by omega
  obtain ⟨k0, k1, hkd⟩ := kd_two (D := D) (p := p) (by rw [hPF.2.2.1 (by omega)]; rcases hκ' with e | e | e | e | e | e | e | e <;> rw [e] <;> rfl)
  have hw2 : wkN D 1 p = 2 := by unfold wkN; rw [if_neg (by omega), hkd]; rfl
  rw [hw2] at o3 o6
  obtain rfl : n = Lv + 2 := o3
  have v0 := hG.2.2.1 Lv (by omega)
  have v1 := hG.2.2.1 (Lv + 1) (by omega)
  obtain ⟨s0, s1, s2⟩ := (hS.2.2.2.1 k0 k1 hkd).2.2.2.1 hκ.1 hκ.2
  have z0 : (X.sv Lv).1 = 0 := by
    have := v0.1
    rw [show ty Lv = E (T.oC k0) from o6 0 k0 (by omega) (by rw [hkd]; rfl)] at this
    exact this.is_num (by rw [hcon.k (by omega) (by omega), s1])
  have z1 : (X.sv (Lv + 1)).1 = 0 := by
    have := v1.1
    rw [show ty (Lv + 1) = E (T.oC k1) from o6 1 k1 (by omega) (by rw [hkd]; rfl)] at this
    exact this.is_num (by rw [hcon.k (by omega) (by omega), s2])
  obtain ⟨y, hy⟩ : ∃ y, y = arR (D.K p) (X.sv Lv).2 (X.sv (Lv + 1)).2 := ⟨_, rfl⟩
  obtain ⟨X', hX⟩ : ∃ X' : dyD, X' = (uq X.sv Lv (0, y), X.2) := ⟨_, rfl⟩
  have hG' := hG.done (X' := X') (v := (0, y)) (by omega) (by omega) ⟨VTy.num (by rw [hcon.k (by omega) (by omega), s0]), LVv.num (by show (0 : Nat) ≠ 2; omega), Nat.zero_le _⟩ hX
  have hRn : ∀ o', RCO X' (Lv + 1) o' → RCO X (Lv + 2) o' := fun o' ⟨k, h1, h2⟩ => by
    rw [hX] at h2
    have h2 : ROb X.hp X.no (uq X.sv Lv (0, y) k) o' := h2
    by_cases e : k = Lv
    · rw [e, uq_self] at h2
      obtain ⟨j, h2⟩ := h2
      cases j with
      | zero => exact absurd (show (0 : Nat) = 2 from congrArg Prod.fst h2.1) (by decide)
      | succ j => obtain ⟨o'', w, h3, _⟩ := h2; exact absurd (show (0 : Nat) = 2 from congrArg Prod.fst h3) (by decide)
    · rw [uq_ne e] at h2; exact ⟨k, by omega, h2⟩
  -- the model
  obtain ⟨m1, m2⟩ := hM.pop
  have e151 := (m1.1.2.2.1 p b1).1
  have e157 := (m1.1.2.2.1 p b1).2.2.2.2.2.2.2.2 hκ.1 hκ.2
  have hr : ∀ τ1, rn L xs (d + 5) 410 0 [.ref 123, .int (i32 (opS (D.K p) : Nat)), jv, jv, jv] [] (wr τ 123 135 (i32 (K.length : Int))) = some (.inl none, τ1) → MGo L xs d τ τ1 := fun τ1 u1 => by
    refine mgo_on hM.2.1 hM.2.2.2.2 (by omega) (by omega) ?_
    have ek : mKd (D.K p) = 8 := by rcases hκ' with e | e | e | e | e | e | e | e <;> rw [e] <;> rfl
    rw [e399_0, swk_of (sw399 1 (by omega)), show t399 1 = 48 from rfl, e399_48, c_in (by omega) (by omega) (by omega), i32_ixn (by omega), e151, ek, show pv_c2 .eq (i32 ((8 : Nat) : Int)) 5 = false from rfl, cond_false, c_in (by omega) (by omega) (by omega), show pv_c2 .ne (i32 ((8 : Nat) : Int)) 9 = true from rfl, cond_true, e399_92, c_in (by omega) (by omega) (by omega), i32_ixn (by omega), e151, ek, show pv_c2 .ne (i32 ((8 : Nat) : Int)) 8 = false from rfl, cond_false, c_in (by omega) (by omega) (by omega), e157, bV_ok u1, e399_268]
  -- the component
  obtain ⟨a1, a2⟩ := hA.op (by omega)
  rw [if_neg (by omega)] at a2
  have a2 : AT D rg cd R cs X.ff bk K i (a + 1) (Lv + 1) := a2
  have hlt := AT.lt _ _ _ _ a2
  have hC' := hC.next
  have hp1 : 1 ≤ pgs := by have := hE.2.2.1.2.2.1; omega
  have hRa : rd σ 95 a = i32 ((4 + D.K p : Nat) : Int) := by rw [hC.at', a1, if_neg (by omega), if_neg (by omega)]
  have ht : t262 (4 + D.K p) = 381 := by rcases hκ' with e | e | e | e | e | e | e | e <;> rw [e] <;> rfl
  have hop : ∀ σ1, rn L xs (d + 10) 276 0 [.ref 117, .int (i32 ((4 + D.K p : Nat) : Int)), jv, jv] [] (wr σ 117 8 (i32 ((a + 1 : Nat) : Int))) = some (.inl none, σ1) → rn L xs (d + 11) 262 (t262 (4 + D.K p)) [.ref 117, .int (i32 ((4 + D.K p : Nat) : Int)), jv, jv] [] (wr σ 117 8 (i32 ((a + 1 : Nat) : Int))) = some (.inl none, σ1) := fun σ1 u1 => by
    rw [ht, e262_381 (d + 10), bV_ok u1, e262_386]
  have hCs := creck_c (L := L) (xs := xs) (κ := D.K p) hκ hC'.2.1.1 hC'.2.1.2.1 hC'.2.2.2.1 hp1 (by omega) z1 z0 (d + 7)
  have hMs := reck_m (L := L) (xs := xs) hκ m1.2.2.2.1 (by omega) (d + 3)
  rw [show Lv + 2 - 1 = Lv + 1 from rfl, show Lv + 2 - 2 = Lv from rfl, ← hy] at hCs hMs
  rcases hMs with ⟨g1, g2, τ1, g3, g4⟩ | ⟨g1, τ1, g3, g4, g5, g6, g7⟩
  · rcases hCs with ⟨_, _, σ1, y3, y4, y5⟩ | ⟨y1, _⟩
    · obtain ⟨q1, q2, q3⟩ := m1.over (frM.refl (S := []) (F := [])) rfl rfl m1.h130 g4
      exact ⟨σ1, τ1, hr τ1 g3, (frW_wr rfl).trans (y5.sub rfl), (m2.sub rfl rfl).trans q2, .inr ⟨cgo_end hC.1 hC.2.2.2.2.1 (by omega) (κ := 4 + D.K p) hRa (by omega) (hop σ1 y3) y4.2.1.1 (by omega), 6, s, X.B, X.no, mt, by omega, y4, hC'.1.fr y5 rfl, by rw [← hC'.2.2.2.2.2]; funext z; exact y5.1 95 rfl z, q1, q3, by have := hG.no_le; omega⟩⟩
    · exact absurd ⟨g1, g2⟩ y1
  · rcases hCs with ⟨y1, y2, _⟩ | ⟨_, σ1, y3, y4, y5⟩
    · exact absurd ⟨y1, y2⟩ g1
    · have w1 : frW [100, 101, 102, 117] σ σ1 := (frW_wr rfl).trans (y5.sub rfl)
      have q1 : ∀ z, z ≠ 8 → rd σ1 117 z = rd σ 117 z := fun z hz => by rw [y5.1 117 rfl, wr_nei hz]
      have hC1 : RMc D rg cd R cs wd pgs ev X' i (Lv + 1) nr fn s st pl pg fl bk (a + 1) σ1 := hC.stack (by rw [hX]; exact y4) w1 q1 (by rw [y5.1 117 rfl, wr_self]) (by rw [hX]; rfl) (by rw [hX]; rfl) (by rw [hX]; rfl) (by rw [hX]; rfl) (by rw [hX]; rfl) hRn
      have hMt : MSt (Lv + 1) X'.sv τ1 := by
        have hS0 := m1.2.2.2.1.1
        refine ⟨g4, by have := hS0.2.1; omega, fun k hk => ?_⟩
        rw [hX]
        show _ = i32 (((uq X.sv Lv (0, y) k).1 : Nat) : Int) ∧ _ = (uq X.sv Lv (0, y) k).2
        rw [g7.1.1 207 rfl]
        by_cases e : k = Lv
        · subst e; rw [uq_self, g5, (hS0.2.2 k (by omega)).1, z0]; exact ⟨rfl, rfl⟩
        · rw [uq_ne e, g6 k e]; exact hS0.2.2 k (by omega)
      have hMk : MSk fn s X' (Lv + 1) nr st oa fil mt pgs wd ev τ1 := m1.2.2.2.1.any (X' := X') hMt g7 rfl rfl (by rw [g7.2 130 rfl]; exact m1.h130) (by rw [hX]; rfl) (by rw [hX]; rfl) (by rw [hX]; rfl) (by rw [hX]; rfl) hRn
      exact ⟨σ1, τ1, hr τ1 g3, w1.sub rfl, (m2.sub rfl rfl).trans (g7.sub rfl rfl), .inl ⟨cgo_on hC.1 hC.2.2.2.2.1 (by omega) (κ := 4 + D.K p) hRa (by omega) (hop σ1 y3) (by rw [q1 5 (by decide)]; exact hC.2.2.2.1.2.2.2.2.1), wtK K, hwt, X', K, i, E, Lv + 1, _, nr, av, Lv, dd, fn, s, oa, fil, mt, pl, pg, fl, bk, a + 1, hG', ⟨m1.1.fr g7 rfl rfl rfl, m1.2.1.fr g7 rfl rfl rfl rfl, (m1.2.2.1.fr g7 rfl rfl rfl rfl rfl rfl).same (by rw [hX]; rfl) (by rw [hX]; rfl) (by rw [hX]; rfl), hMk, by rw [g7.2 122 rfl]; exact m1.2.2.2.2⟩, hC1, by rw [hX]; exact a2, by rw [hX]; exact hmt, rfl⟩⟩
end JOPS
