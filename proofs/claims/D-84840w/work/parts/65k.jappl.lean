/-! RUNS, BOTH: applications -/
section JAPPL
variable {L : Nat} {xs : Nat → Int32} {σ σ' σ1 τ τ' τ1 : tvS} {D : pgD} {m : Nat} {rg : rgD} {cd : cdD} {T : tsD} {vd W : Nat → Nat} {M wd pgs ev N : Nat} {G : tG} {rr : Nat → Nat} {R : Nat → Int32} {cs : Nat} {X X' : dyD} {K K' : List (Nat × Nat × Nat)} {i : Nat} {E E' : Nat → trE} {n n' : Nat} {ty ty' : Nat → trE} {nr nr' : Nat} {av av' : Nat → Prop} {Lv dd dd' st w p b a κ q c j k : Nat} {fn fn' : Nat → Nat × Nat} {s s' : cSt} {oa : Nat → Nat} {fil mt : Nat} {pl : Nat → Nat} {pg : Nat → List Nat} {fl : List Nat} {bk : Nat → Nat} {d M0 : Nat} {x : obD} {t : trE}
theorem idx_map {v : Nat} : ∀ l : List Nat, (∀ v', v' ∈ l → vd v = vd v' → v = v') → (l.map vd).idxOf (vd v) = l.idxOf v := by
  intro l
  induction l with
  | nil => intro _; rfl
  | cons u l ih =>
    intro h
    have ih := ih (fun v' hv' => h v' (List.mem_cons_of_mem _ hv'))
    rw [List.map_cons, List.idxOf_cons, List.idxOf_cons, ih]
    by_cases c : u = v
    · subst c; rw [beq_self_eq_true, beq_self_eq_true]
    · have c2 : ¬ vd u = vd v := fun e => c (h u List.mem_cons_self e.symm).symm
      rw [beq_false_of_ne c, beq_false_of_ne c2]
theorem apX_ok {o f : Nat} (hvi : ∀ v v', v ∈ cd.cg (D.vl (X.hp o).pt) → v' ∈ cd.cg (D.vl (X.hp o).pt) → vd v = vd v' → v = v') (hvg : ∀ v, v ∈ cd.cg (D.vl (X.hp o).pt) → vd v ≠ vd (D.gv (D.vl (X.hp o).pt))) (hnd : (rg.kp (D.vl (X.hp o).pt)).Nodup) (hkl : (X.hp o).kp.length = (rg.kp (D.vl (X.hp o).pt)).length) : APd D rg cd vd X (apX D rg cd vd X i o b f) i o b f := by
  refine ⟨rfl, rfl, rfl, rfl, rfl, fun j hj => uq_ne (by omega), uq_self, fun j e hj => if_neg (by omega), fun j e hj => if_neg (by omega), fun v hv => ?_, ?_, fun j r s hj => ?_⟩
  · show (if i + 1 = i + 1 then _ else _) = _
    rw [if_pos rfl, if_neg (hvg v hv), if_pos (List.mem_map_of_mem hv), idx_map _ (fun v' hv' => hvi v v' hv hv')]
  · show (if i + 1 = i + 1 then _ else _) = _
    rw [if_pos rfl, if_pos rfl]
  · have hl : j < (rg.kp (D.vl (X.hp o).pt)).length := by rw [← hkl]; exact (List.getElem?_eq_some_iff.mp hj).1
    show (if i + 1 = i + 1 then _ else _) = _
    rw [if_pos rfl, if_pos (getD_mem hl), idx_at hnd hl, List.getD_eq_getElem?_getD, hj]; rfl
theorem kp60 {l : List Nat} (hnd : l.Nodup) (h : ∀ k, k ∈ l → 1 ≤ k ∧ k ≤ 60) : l.length ≤ 60 := by
  have := nodup_lt (N := 61) (ML := 0 :: l) (List.nodup_cons.mpr ⟨fun e => by have := h 0 e; omega, hnd⟩) (fun x hx => by
    rcases List.mem_cons.mp hx with e | e
    · omega
    · have := h x e; omega)
  have : l.length + 1 ≤ 61 := this
  omega
theorem PGF.bfm (hF : PGF D m) : ∀ (k f : Nat), f + k ≤ D.fc + 1 → D.bF f ≤ D.bF (f + k) := by
  intro k
  induction k with
  | zero => intro f _; exact Nat.le_refl _
  | succ k ih =>
    intro f h
    have h1 := ih f (by omega)
    have h2 := (hF.2.2 (f + k) (by omega)).1.2.2.1
    exact Nat.le_trans h1 h2
/-- a fn is of one part -/
theorem PGF.fnu (hF : PGF D m) {f g p q : Nat} (hf : f ≤ D.fc) (hg : g ≤ D.fc) (p1 : D.bP f ≤ p) (p2 : p < D.bP (f + 1)) (q1 : D.bP g ≤ q) (q2 : q < D.bP (g + 1)) (hp : D.K p = 17) (hq : D.K q = 17) (hv : D.vl p = D.vl q) : f = g ∧ p = q := by
  obtain ⟨a1, a2⟩ := ((hF.2.2 f hf).2.2.1 p p1 p2).2.2.2.2.2.2.1 hp
  obtain ⟨b1, b2⟩ := ((hF.2.2 g hg).2.2.1 q q1 q2).2.2.2.2.2.2.1 hq
  have e : f = g := by
    rcases Nat.lt_trichotomy f g with h | h | h
    · have := hF.bfm (g - (f + 1)) (f + 1) (by omega)
      rw [show f + 1 + (g - (f + 1)) = g by omega] at this
      omega
    · exact h
    · have := hF.bfm (f - (g + 1)) (g + 1) (by omega)
      rw [show g + 1 + (f - (g + 1)) = f by omega] at this
      omega
  subst e
  exact ⟨rfl, (hF.2.2 f hf).2.2.2.2.2.2 p q (D.gv (D.vl p)) p1 p2 q1 q2 (by unfold pgD.bd; rw [if_pos hp]; exact List.mem_cons_self) (by unfold pgD.bd; rw [if_pos hq, hv]; exact List.mem_cons_self)⟩
/-- an application -/
theorem J_appl (hE : ENV D m rg cd T vd W M wd pgs ev) (hG : RGI D rg cd T vd W M wd X ((6, p, b) :: K) i E n ty nr av Lv dd st) (hM : RMm D rg cd vd N G rr wd pgs ev X ((6, p, b) :: K) i n nr fn s st oa fil mt τ) (hC : RMc D rg cd R cs wd pgs ev X i n nr fn s st pl pg fl bk a σ) (hA : AT D rg cd R cs X.ff bk ((6, p, b) :: K) i a n) (hmt : mt ≤ M0 + 3 * X.no ∧ s.cp ≤ M0 + 80001) :
    JST L xs d D rg cd T vd W M N G rr R cs wd pgs ev M0 st (wtK ((6, p, b) :: K)) σ τ := by
  have hkl := hG.kle hE hM.2.2.1.2.2.1
  have hkl : K.length + 1 + 20 < 130000 := hkl
  obtain ⟨⟨f1, f2, f3, b1, b2⟩, hPF, hS, hV, hcon, hP, hW, o3, o4, o6⟩ := hG.on hE (by omega)
  have hκ : D.K p = 7 := by rcases hW with ⟨q, h⟩ | ⟨q, h⟩ | ⟨q, h⟩ | ⟨q, h⟩ | ⟨q, h⟩ | ⟨q, h⟩ <;> omega
  obtain ⟨A1, A2⟩ := hA.appl
  obtain ⟨kk0, kk1, hkd⟩ := kd_two (D := D) (p := p) (by rw [hPF.2.2.1 (by omega), hκ]; rfl)
  have hw2 : wkN D 6 p = 2 := by unfold wkN; rw [if_neg (by omega), hkd]; rfl
  rw [hw2] at o3 o6
  obtain rfl : n = Lv + 2 := o3
  obtain ⟨K', o5⟩ := (TK.on hG.1 (by omega)).2.2.2.2.1
  have hno := hG.no_le
  have hP0 := hE.1.1.1
  have v0 := hG.2.2.1 Lv (by omega)
  obtain ⟨s0, _, _⟩ := (hS.2.2.2.1 kk0 kk1 hkd).2.2.1 hκ
  have hv0 := v0.1
  have ty0 : ty Lv = E (T.oC kk0) := o6 0 kk0 (by omega) (by rw [hkd]; rfl)
  rw [ty0] at hv0
  obtain ⟨o, e1, e2, e3, e4, e5, _, g, k0, _, ⟨g1, g2, g3, g4, g5⟩, _⟩ := hv0.is_clo (by rw [hcon.k (by omega) (by omega), s0])
  obtain ⟨r1, r2⟩ := (v0.2.1.2 o (by rw [e1]; exact ⟨0, rfl, e2, e3⟩)).1
  obtain ⟨pt, hpt⟩ : ∃ pt, pt = (X.hp o).pt := ⟨_, rfl⟩
  rw [← hpt] at g2 g3 g4 g5
  obtain ⟨j0, hj0⟩ : ∃ j0, j0 = D.vl pt := ⟨_, rfl⟩
  have hWF := (hG.2.2.2.1.2.1 o e2 e3).1
  obtain ⟨fb1, fb2, fb3, fb4⟩ := hE.1.1.fnb g1 g2 g3 g4
  obtain ⟨y1, y2, y3⟩ := hE.2.2.2.2.1 (D.vl pt) fb1
  have hVp := (hE.1.2.2.2.2.1 g pt g1 g2 g3).2
  obtain ⟨⟨_, hndc⟩, vg, vc, _⟩ := hVp.1 g4
  have vi := hVp.2.2.2.1
  have hvi : ∀ v v', v ∈ cd.cg (D.vl pt) → v' ∈ cd.cg (D.vl pt) → vd v = vd v' → v = v' := fun v v' h h' e => (vi v (vc v h).1).2 v' (vc v' h').1 e
  have hvg : ∀ v, v ∈ cd.cg (D.vl pt) → vd v ≠ vd (D.gv (D.vl pt)) := fun v h e => by have := (vi v (vc v h).1).1; omega
  have hnKg := hE.1.2.2.2.2.2.2.2.2 g g1
  have hkm : ∀ k, k ∈ rg.kp (D.vl pt) → 1 ≤ k ∧ k ≤ 60 := fun k hk => by
    have := (hE.1.2.2.2.2.2.2.2.1 g pt k0 g1 g2 g3 g4 g5).2 k hk
    omega
  have hk60 := kp60 y2 hkm
  have hkl3 : (X.hp o).kp.length = (rg.kp (D.vl pt)).length := by rw [hpt]; exact (hWF.2.2.1 e4).2.1
  obtain ⟨X', hX⟩ : ∃ X' : dyD, X' = apX D rg cd vd X i o Lv g := ⟨_, rfl⟩
  have hAP : APd D rg cd vd X X' i o Lv g := by rw [hX]; exact apX_ok (by rw [← hpt]; exact hvi) (by rw [← hpt]; exact hvg) (by rw [← hpt]; exact y2) (by rw [← hpt]; exact hkl3)
  obtain ⟨E', av', hT⟩ := T_apply (k0 := k0) hE.1 hG.2.2.2.1.1 (by omega) hG.1 e1 ⟨e2, e3⟩ v0.1 v0.2.1 g1 (by rw [← hpt]; exact g2) (by rw [← hpt]; exact g3) (by rw [← hpt]; exact g5) hAP
  have eff : ∀ j, j ≤ i → X'.ff j = X.ff j := fun j hj => by unfold dyD.ff; rw [hAP.2.2.2.2.2.1 j hj]
  have effn : X'.ff (i + 1) = g := by unfold dyD.ff; rw [hAP.2.2.2.2.2.2.1]
  obtain ⟨hG', hwt⟩ := hG.enter hE (.inr rfl) hT hAP.1 (by rw [hX]; rfl) hAP.2.2.2.2.1 eff (by rw [effn]; omega)
  have hp1 : 1 ≤ pgs := by have := hE.2.2.1.2.2.1; omega
  have hnKf : ∀ j, j ≤ i → rg.nK (X.ff j) ≤ 60 := fun j hj => hE.1.2.2.2.2.2.2.2.2 (X.ff j) (hG.2.2.2.2.1 j hj)
  -- the model
  obtain ⟨m1, m2⟩ := hM.pop
  have mstep : ∀ τ1, rn L xs (d + 5) 416 0 [.ref 123, .int (i32 (p : Int)), jv, jv, jv, jv, jv] [] (wr τ 123 135 (i32 (K.length : Int))) = some (.inl none, τ1) → MGo L xs d τ τ1 := fun τ1 u1 => by
    refine mgo_on hM.2.1 hM.2.2.2.2 (by omega) (by omega) ?_
    rw [e399_0, swk_of (sw399 6 (by omega)), show t399 6 = 231 from rfl, e399_231, bV_ok u1, e399_268]
  have hMs := appl_m (L := L) (xs := xs) (k0 := k0) (n' := p) (o := o) (f := g) (p := pt) m1.1 hE.1.1 m1.2.2.1 m1.2.2.2.1 m1.2.1 (by omega) hno (by omega) e1 e2 e3 r1 r2 g1 hpt.symm g2 g3 g4 g5 hWF e4 hk60 (fun j hj => by have := hkm _ (getD_mem hj); omega) y2 y3 fb4 hndc hvi hvg (d + 1)
  -- the component
  have hlt := AT.lt _ _ _ _ A2
  have hC' := hC.next
  have hop : ∀ σ2, rn L xs (d + 10) 274 0 [.ref 117, jv, jv, jv, jv] [] (wr σ 117 8 (i32 ((a + 1 : Nat) : Int))) = some (.inl none, σ2) → rn L xs (d + 11) 262 (t262 25) [.ref 117, .int (i32 ((25 : Nat) : Int)), jv, jv] [] (wr σ 117 8 (i32 ((a + 1 : Nat) : Int))) = some (.inl none, σ2) := fun σ2 u1 => by
    rw [show t262 25 = 359 from rfl, e262_359 (d + 10), bV_ok u1, e262_386]
  have hRa : rd σ 95 a = i32 ((25 : Nat) : Int) := by rw [hC.at', A1]; rfl
  obtain ⟨g', p', k0', Ep, eb, H1, H2, H3, H4, H5, H6, H7, H8, H9, H10, H11⟩ := hC'.1.2.2.1 (D.vl pt) fb1
  obtain ⟨eg, ep⟩ := hE.1.1.fnu g1 H1 g2 g3 H2 H3 g4 H4 H5.symm
  subst eg; subst ep
  rw [g5] at H6
  injection H6 with H6
  subst H6
  rw [hC'.2.2.2.2.2] at H9 H10
  have hCs := capply_c (L := L) (xs := xs) (vd := vd) (E := Ep) (f := g) (j0 := D.vl pt) (o := o) (a := a + 1) hC'.1 hC'.2.1 hC'.2.2.1 hC'.2.2.2.1 hp1 (hG.gch hE) f1 hP0.1 hnKf (by omega) e1 e2 e3 e4 (by rw [hpt]) fb1 (by omega) hk60 y2 (fun j hj => hkm _ (getD_mem hj)) hC'.2.2.2.2.1 H7 H8 (d + 6)
  rcases hMs with ⟨i3, τ0, τ1, z1, z0, z3, z2⟩ | ⟨i3, τ1, z1, z2, z3, z5, z6⟩
  · rcases hCs with ⟨_, σ2, y1, y2, y3⟩ | ⟨y0, _⟩
    · obtain ⟨q1, q2, q3⟩ := m1.over z0 rfl rfl z3 z2
      exact ⟨σ2, τ1, mstep τ1 z1, (frW_wr rfl).trans y3, (m2.sub rfl rfl).trans q2, .inr ⟨cgo_end hC.1 hC.2.2.2.2.1 (by omega) (κ := 25) hRa (by omega) (hop σ2 y1) y2.2.1.1 (by omega), 4, s, X.B, X.no, mt, by omega, y2, hC'.1.fr y3 rfl, by rw [← hC'.2.2.2.2.2]; funext z; exact y3.1 95 rfl z, q1, q3, by omega⟩⟩
    · omega
  · rcases hCs with ⟨y0, _⟩ | ⟨_, σ2, y1, y2, y3, y4, y5⟩
    · omega
    · have w3 : frW RCr σ σ2 := (frW_wr rfl).trans (y5.sub rfl)
      have e95 : rd σ2 95 = R := by rw [← hC'.2.2.2.2.2]; funext z; exact y5.1 95 rfl z
      have h5 : rd σ2 117 5 = 1 := by rw [y4 5 (by omega)]; exact hC'.2.2.2.1.2.2.2.2.1
      have hRn : ∀ o, RCO X' (Lv + 2) o → RCO X (Lv + 2) o := by rw [hX]; exact fun _ h => h
      have hC3 : RMc D rg cd R cs wd pgs ev X' (i + 1) (Lv + 2) nr fn s st pl pg fl (uq bk i (a + 1)) Ep σ2 := by
        refine ⟨hC'.1.fr y5 rfl, ?_, by rw [hX]; exact y2, ?_, y3, e95⟩
        · have := hC'.2.1.fr y5 rfl
          rw [hX]; exact this
        · rw [hX]
          exact hC'.2.2.2.1.fr (fun z _ => y5.1 103 rfl z) (fun z hz => y4 z hz) (fun j hj z => by rcases hj with e | e <;> rw [e] <;> exact y5.1 _ rfl z)
      have hMk : MSk fn s X' (Lv + 2) nr st oa fil mt pgs wd ev τ1 := m1.2.2.2.1.any (X' := X') (by rw [hX]; exact m1.2.2.2.1.1.fr z5 rfl rfl rfl) z5 rfl rfl z6 (by rw [hX]; rfl) (by rw [hX]; rfl) (by rw [hX]; rfl) (by rw [hX]; rfl) hRn
      refine ⟨σ2, τ1, mstep τ1 z1, w3, (m2.sub rfl rfl).trans (z5.sub rfl rfl), .inl ⟨cgo_on hC.1 hC.2.2.2.2.1 (by omega) (κ := 25) hRa (by omega) (hop σ2 y1) h5, _, hwt, X', (0, k0, 0) :: (8, 0, 0) :: K, i + 1, E', Lv + 2, ty, nr, av', Lv + 2, (D.sl k0).length, fn, s, oa, fil, mt, pl, pg, fl, uq bk i (a + 1), Ep, hG', ⟨m1.1.fr z5 rfl rfl rfl, z3, by rw [hX]; exact z2, hMk, by rw [z5.2 122 rfl]; exact m1.2.2.2.2⟩, hC3, .inl ⟨rfl, 100, eb, by rw [effn]; exact H9, .inr (.inr (.inl ⟨rfl, H11, H10, i, p, Lv, K', rfl, o5, ?_⟩))⟩, by rw [hX]; exact hmt, rfl⟩⟩
      rw [uq_self]
      exact AT.congr _ _ _ _ eff (fun j hj => uq_ne (by omega)) A2
end JAPPL
