/-! RUNS: calls, applications, ends -/
section CALLS
variable {D : pgD} {m : Nat} {rg : rgD} {cd : cdD} {T : tsD} {vd : Nat → Nat} {X X' : dyD} {E : Nat → trE} {ty ty' : Nat → trE} {i n nr L dd p : Nat} {av : Nat → Prop} {K : List (Nat × Nat × Nat)}
/-- a call of a function: what is told of the one more call -/
def CAd (D : pgD) (rg : rgD) (X X' : dyD) (i p b : Nat) : Prop :=
  X'.sv = X.sv ∧ X'.hp = X.hp ∧ X'.no = X.no ∧ X'.B = X.B ∧ X'.ser = X.ser ∧ (∀ j, j ≤ i → X'.fr j = X.fr j) ∧ X'.fr (i + 1) = (D.vl p, b, -1) ∧ (∀ j e, j ≤ i → X'.aR j e = X.aR j e) ∧ (∀ j e, j ≤ i → X'.aV j e = X.aV j e) ∧
  (∀ j, j < (D.kd p).length → X'.aV (i + 1) j = ((b + j : Nat) : Int)) ∧ ∀ j, j < (rg.gl (D.vl p)).length → X'.aR (i + 1) ((rg.gl (D.vl p)).getD j 0) = X.aR i (handN D rg (X.ff i) p j)
theorem gl_mem {f k : Nat} : k ∈ rg.gl f ↔ 1 ≤ k ∧ k ≤ rg.nK f ∧ rg.ow f (k - 1) = -1 := by
  unfold rgD.gl
  rw [nfil_mem]
  constructor
  · rintro ⟨j, h1, h2, h3⟩
    subst h3
    exact ⟨by omega, by omega, by rw [Nat.add_sub_cancel]; exact h2⟩
  · rintro ⟨h1, h2, h3⟩
    exact ⟨k - 1, by omega, h3, by omega⟩
theorem getD_at {l : List Nat} {k : Nat} (h : k ∈ l) : ∃ j, j < l.length ∧ l.getD j 0 = k := by
  obtain ⟨j, h1, h2⟩ := List.mem_iff_getElem.mp h
  exact ⟨j, h1, by rw [List.getD_eq_getElem?_getD, List.getElem?_eq_getElem h1, h2]; rfl⟩
/-- what a part puts has its region there -/
theorem PRT.put {k : Nat} (hS : SPF D m rg cd T vd) (h : PRT D rg cd T vd X i E ty nr av L dd p p) (hq : PNu D rg (X.ff i) p k) : av k ∧ 1 ≤ k ∧ k ≤ rg.nK (X.ff i) := by
  obtain ⟨⟨a1, a2, a3, a4, a5⟩, b, c, d1, d2⟩ := h
  have hst := ((hS.1.2.2 _ a1).2.2.1 p a2 a3).1.2.2.2
  obtain ⟨k1, k2, k3, _⟩ := hS.2.2.2.2.2.2.1 _ p k a1 a2 a3 hq
  refine ⟨?_, k1, k2⟩
  rcases d1 p k hst (Nat.le_refl _) hq with g | ⟨r, g1, g2, g3⟩
  · exact g
  · rcases k3 with e | ⟨r', e1, _, _, e4⟩
    · rw [g1] at e; omega
    · have := e4.2
      rw [g1] at e1; omega
theorem T_call {b : Nat} (hS : SPF D m rg cd T vd) (hH : HOK X.hp X.no) (hno : X.no ≤ 30001) (hB : 0 < X.B) (h : TK D rg cd T vd X ((5, p, b) :: K) i E n ty nr av L dd) (hx : CAd D rg X X' i p L) :
    ∃ (E' : Nat → trE) (av' : Nat → Prop), TK D rg cd T vd X' ((0, D.bP (D.vl p + 1) - 1, 0) :: (8, 0, 0) :: K) (i + 1) E' n ty nr av' n (D.bk (D.vl p)) := by
  obtain ⟨g1, g2, g3, g4, ⟨K', g5⟩, g6, g7⟩ := h.on (by omega)
  have hk3 : D.K p = 3 := by rcases g1 with h | h | h | h | h | h <;> omega
  have hp0 := g2
  obtain ⟨⟨a1, a2, a3, a4, a5⟩, ⟨c1, c2, c3⟩, s, d1, d2⟩ := g2
  obtain ⟨x1, x2, x3, x4, x5, x6, x7, x8, x9, x10, x11⟩ := hx
  have hpf := (hS.1.2.2 _ a1).2.2.1 p a2 a3
  obtain ⟨w1, w2, w3, w4⟩ := hpf.2.2.2.1 hk3
  have hgf : D.vl p ≤ D.fc := by omega
  have hPg := hS.1.2.2 _ hgf
  obtain ⟨SG, hm, t1, t2, ⟨t3, t4⟩, t5⟩ := (hS.2.2.2.2.1 _ p a1 a2 a3).1.2.2.2.2.2.2 hk3
  have hwk : wkN D 5 p = (D.kd p).length := by unfold wkN; rw [if_neg (by omega)]
  have ef : X'.ff (i + 1) = D.vl p := by unfold dyD.ff; rw [x7]
  have eb : X'.bs (i + 1) = L := by unfold dyD.bs; rw [x7]
  have ej : X'.fj (i + 1) = -1 := by unfold dyD.fj; rw [x7]
  have hd : DYK X X' i nr L dd av := ⟨⟨hH, by omega⟩, fun k _ => by rw [x1], fun o _ _ => by rw [x2], by omega, by omega, fun r _ => by rw [x5], x6, fun j k hj => x8 j k (by omega), fun k _ => x8 i k (Nat.le_refl _), fun j e hj => x9 j e (by omega), fun e _ => x9 i e (Nat.le_refl _)⟩
  have hnr : n = L + D.bk (D.vl p) := by rw [g3, hwk, w4]
  have hsl := hPg.2.1.2
  have hfn : cd.fn D (D.bP (D.vl p + 1) - 1) = -1 := by
    show (match D.sl (D.bP (D.vl p + 1) - 1) with | [] => -1 | v :: _ => cd.vo v) = _
    rw [hsl]
    have hv : ∀ v, v ∈ pls (D.tV (D.vl p)) (D.bk (D.vl p)) → cd.vo v = -1 := fun v hv => by
      obtain ⟨p1, p2⟩ := pls_bd hv
      have := (hS.2.2.1 _ (v - D.tV (D.vl p)) hgf (by omega)).1
      rw [show D.tV (D.vl p) + (v - D.tV (D.vl p)) = v by omega] at this
      exact this
    have key : ∀ l : List Nat, (∀ v, v ∈ l → cd.vo v = -1) → (match l with | [] => (-1 : Int) | v :: _ => cd.vo v) = -1 := by
      intro l hl
      cases l with
      | nil => rfl
      | cons v r => exact hl v List.mem_cons_self
    exact key _ hv
  have hroot : D.bP (D.vl p) ≤ D.bP (D.vl p + 1) - 1 ∧ D.bP (D.vl p + 1) - 1 < D.bP (D.vl p + 1) := by have := hPg.1.1; omega
  have hhr := hS.2.1.1 _ hgf
  refine ⟨caT T.g E SG hm X.B, fun k => k ∈ rg.gl (D.vl p), .inl ⟨rfl, ⟨⟨by rw [ef]; exact hgf, by rw [ef]; exact hroot.1, by rw [ef]; exact hroot.2, by rw [ej]; exact hfn, by rw [hsl, pls_len]⟩, ⟨caT_cons c1 t1 hB c2, fun c z hz => by rw [x4]; exact caT_rgs hB c2 hz, fun k hk => ?_⟩, fun v hv => ?_, fun q k q1 q2 hq => ?_, fun k r hk hr => ?_⟩, by rw [eb, hhr]; exact hnr, .inr (.inr (.inl ⟨rfl, i, p, L, K', E, av, L, dd, rfl, g5, eb, by omega, ?_⟩))⟩⟩
  · obtain ⟨k1, k2, k3⟩ := gl_mem.mp hk
    obtain ⟨j, j1, j2⟩ := getD_at hk
    obtain ⟨m1, m2⟩ := t5 j j1
    have hpn : PNu D rg (X.ff i) p (handN D rg (X.ff i) p j) := .inr ⟨hk3, j, j1, rfl⟩
    obtain ⟨v1, v2, v3⟩ := hp0.put hS hpn
    obtain ⟨y1, y2, y3, y4⟩ := c3 _ v1
    have hx11 := x11 j j1
    rw [j2] at hx11 m1 m2
    rw [ef, hx11, x5, caT_sg m1, m2]
    exact ⟨k1, k2, y3, y4⟩
  · rw [hsl] at hv
    obtain ⟨p1, p2⟩ := pls_bd hv
    obtain ⟨v1, v2⟩ := hS.2.2.1 _ (v - D.tV (D.vl p)) hgf (by omega)
    have sl1 := hS.2.1.2.2.1 _ (v - D.tV (D.vl p)) hgf (by omega)
    rw [show D.tV (D.vl p) + (v - D.tV (D.vl p)) = v by omega] at v1 v2 sl1
    have hjl : v - D.tV (D.vl p) < (D.kd p).length := by omega
    have hk : (D.kd p)[v - D.tV (D.vl p)]? = some ((D.kd p)[v - D.tV (D.vl p)]'hjl) := List.getElem?_eq_getElem hjl
    generalize (D.kd p)[v - D.tV (D.vl p)]'hjl = kk at hk
    obtain ⟨m1, m2⟩ := t2 _ kk hk
    rw [show D.tV (D.vl p) + (v - D.tV (D.vl p)) = v by omega] at m1 m2
    refine ⟨by omega, fun _ => ?_, fun e => ?_⟩
    · rw [v2, eb, sl1, x10 _ hjl, caT_sg m1, m2, hhr]
      exact ⟨rfl, by omega, g6 _ kk (by omega) hk⟩
    · rw [hfn] at e; exact absurd v1 e
  · rw [ef] at hq ⊢
    rw [hPg.2.1.1] at q1
    obtain ⟨k1, k2, k3, _⟩ := hS.2.2.2.2.2.2.1 _ q k hgf q1 (by omega) hq
    rcases k3 with e | ⟨r, e1, e2, e3, e4⟩
    · exact .inl (gl_mem.mpr ⟨k1, k2, e⟩)
    · exact .inr ⟨r, e1, by rw [hPg.2.1.1]; exact e2, by omega⟩
  · rw [ef] at hr
    have := (gl_mem.mp hk).2.2
    rw [this] at hr; omega
  · have hx := g7 (n + 1) (uq ty n (caT T.g E SG hm X.B (T.oC (D.bP (D.vl p + 1) - 1)))) (by omega) (fun k hk => uq_ne (by omega)) (by rw [Nat.add_sub_cancel, uq_self, caT_sg t3, t4])
    exact TK.to K i E (n + 1) _ _ nr av L dd hd (fun _ _ => rfl) hx
/-- an application: what is told of the one more call -/
def APd (D : pgD) (rg : rgD) (cd : cdD) (vd : Nat → Nat) (X X' : dyD) (i o b f : Nat) : Prop :=
  X'.sv = X.sv ∧ X'.hp = X.hp ∧ X'.no = X.no ∧ X'.B = X.B ∧ X'.ser = X.ser ∧ (∀ j, j ≤ i → X'.fr j = X.fr j) ∧ X'.fr (i + 1) = (f, b, (D.vl (X.hp o).pt : Int)) ∧ (∀ j e, j ≤ i → X'.aR j e = X.aR j e) ∧ (∀ j e, j ≤ i → X'.aV j e = X.aV j e) ∧
  (∀ v, v ∈ cd.cg (D.vl (X.hp o).pt) → X'.aV (i + 1) (vd v) = -2 - ((cd.cg (D.vl (X.hp o).pt)).idxOf v : Int)) ∧ X'.aV (i + 1) (vd (D.gv (D.vl (X.hp o).pt))) = ((b + 1 : Nat) : Int) ∧
  ∀ j r s, (X.hp o).kp[j]? = some (r, s) → X'.aR (i + 1) ((rg.kp (D.vl (X.hp o).pt)).getD j 0) = r
theorem T_apply {b o f k0 : Nat} (hS : SPF D m rg cd T vd) (hH : HOK X.hp X.no) (hno : X.no ≤ 30001) (h : TK D rg cd T vd X ((6, p, b) :: K) i E n ty nr av L dd) (hv : X.sv L = (2, i32 (o : Int))) (ho : 1 ≤ o ∧ o ≤ X.no) (hVT : VTy D rg cd T X.hp X.no X.B (X.sv L) (ty L)) (hLV : LVv X.hp X.no X.ser nr (X.sv L)) (hf : f ≤ D.fc) (hf1 : D.bP f ≤ (X.hp o).pt) (hf2 : (X.hp o).pt < D.bP (f + 1)) (hk0 : D.kd (X.hp o).pt = [k0]) (hx : APd D rg cd vd X X' i o L f) :
    ∃ (E' : Nat → trE) (av' : Nat → Prop), TK D rg cd T vd X' ((0, k0, 0) :: (8, 0, 0) :: K) (i + 1) E' n ty nr av' n (D.sl k0).length := by
  obtain ⟨g1, g2, g3, g4, ⟨K', g5⟩, g6, g7⟩ := h.on (by omega)
  have hk7 : D.K p = 7 := by rcases g1 with h | h | h | h | h | h <;> omega
  obtain ⟨⟨a1, a2, a3, a4, a5⟩, ⟨c1, c2, c3⟩, s, d1, d2⟩ := g2
  obtain ⟨x1, x2, x3, x4, x5, x6, x7, x8, x9, x10, x10b, x11⟩ := hx
  have hpf := (hS.1.2.2 _ a1).2.2.1 p a2 a3
  obtain ⟨e0, e1, hkd⟩ := kd_two (D := D) (p := p) (by rw [hpf.2.2.1 (by omega), hk7]; rfl)
  have hwk : wkN D 6 p = 2 := by unfold wkN; rw [if_neg (by omega), hkd]; rfl
  obtain ⟨q1, q2, q3⟩ := ((hS.2.2.2.2.1 _ p a1 a2 a3).1.2.2.2.1 e0 e1 hkd).2.2.1 hk7
  have ty0 : ty L = E (T.oC e0) := g6 0 e0 (by omega) (by rw [hkd]; rfl)
  have ty1 : ty (L + 1) = E (T.oC e1) := g6 1 e1 (by omega) (by rw [hkd]; rfl)
  obtain ⟨o', eo, o1, o2, okd, ose, hclo⟩ := hVT.is_clo (by rw [ty0, c1.k (by omega) (by omega), q1])
  have eo' : o' = o := by
    rw [hv] at eo
    have := (i32_inj (by omega) (by omega) (by omega) (by omega)).mp (congrArg Prod.snd eo)
    omega
  subst eo'
  obtain ⟨_, f', k0', E', ⟨b1, b2, b3, b4, b5⟩, E1, E2, ⟨E3, E4⟩, ⟨C1, C2⟩, ⟨R1, R2⟩⟩ := hclo
  have ef' : f' = f := hS.1.whose b2 b3 hf1 hf2 b1 hf
  subst ef'
  have ek : k0' = k0 := by rw [hk0] at b5; injection b5 with b5; exact b5.symm
  subst ek
  have hPg := hS.1.2.2 _ hf
  have hpg := hPg.2.2.1 _ b2 b3
  have hk0w : (D.kd (X.hp o').pt)[0]? = some k0' := by rw [b5]; rfl
  obtain ⟨z1, z2, z3, _⟩ := contN.at _ _ _ _ _ hpg.2.1 hk0w
  have hst := hpg.1.2.2.1
  have hsl := hpg.2.2.2.2.2.1 0 k0' hk0w
  have sn0 : D.sn (X.hp o').pt 0 = [D.gv (D.vl (X.hp o').pt)] := by unfold pgD.sn; rw [if_pos b4]
  rw [sn0] at hsl
  obtain ⟨hv17, _, _, hvs, _⟩ := (hS.2.2.2.2.1 _ _ hf b2 b3).2
  obtain ⟨⟨v1, vnd⟩, v2, v3, v4⟩ := hv17 b4
  have hfn : cd.fn D k0' = (D.vl (X.hp o').pt : Int) := by
    show (match D.sl k0' with | [] => -1 | v :: _ => cd.vo v) = _
    rw [hsl]; exact v1
  have hgk : cd.hg k0' = 2 := by
    rw [hS.2.1.2.1 _ _ 0 k0' hf b2 b3 hk0w]; unfold hgw; rw [if_pos b4]
  have hslv := (hS.2.1.2.2.2 _ _ hf b2 b3).1 b4
  obtain ⟨kp1, kp2⟩ := hS.2.2.2.2.2.2.2.1 _ _ k0' hf b2 b3 b4 b5
  have ef : X'.ff (i + 1) = f' := by unfold dyD.ff; rw [x7]
  have eb : X'.bs (i + 1) = L := by unfold dyD.bs; rw [x7]
  have ej : X'.fj (i + 1) = (D.vl (X.hp o').pt : Int) := by unfold dyD.fj; rw [x7]
  have hd : DYK X X' i nr L dd av := ⟨⟨hH, by omega⟩, fun k _ => by rw [x1], fun o _ _ => by rw [x2], by omega, by omega, fun r _ => by rw [x5], x6, fun j k hj => x8 j k (by omega), fun k _ => x8 i k (Nat.le_refl _), fun j e hj => x9 j e (by omega), fun e _ => x9 i e (Nat.le_refl _)⟩
  obtain ⟨_, _, _, hvk, _⟩ := (hS.2.2.2.2.1 _ k0' hf (by omega) (by omega)).2
  refine ⟨E', fun k => k ∈ rg.kp (D.vl (X.hp o').pt), .inl ⟨rfl, ⟨⟨by rw [ef]; exact hf, by rw [ef]; omega, by rw [ef]; omega, by rw [ej]; exact hfn, rfl⟩, ⟨E1, fun c z hz => by rw [x4]; exact E2 c z hz, fun k hk => ?_⟩, fun v hv' => ⟨(hvk v hv').1, fun e => ?_, fun e hc => ?_⟩, fun q k r1 r2 hq => ?_, fun k r hk hr hb => ?_⟩, by rw [eb, hgk]; omega, .inr (.inr (.inl ⟨rfl, i, p, L, K', E, av, L, dd, rfl, g5, eb, by omega, ?_⟩))⟩⟩
  · obtain ⟨m1, m2, _⟩ := kp2 k hk
    obtain ⟨j, j1, j2⟩ := getD_at hk
    have hj : j < (X.hp o').kp.length := by omega
    have hkj : (X.hp o').kp[j]? = some ((X.hp o').kp[j]'hj) := List.getElem?_eq_getElem hj
    generalize (X.hp o').kp[j]'hj = rs at hkj
    obtain ⟨r, s'⟩ := rs
    have hx := x11 j r s' hkj
    obtain ⟨w1, w2⟩ := R2 j r s' hkj
    have hl := ((hLV.2 o' ⟨0, hv, ho.1, ho.2⟩).2 r s' (List.mem_of_getElem? hkj))
    rw [j2] at hx w1
    rw [ef, hx, x5]
    exact ⟨m1, m2, hl.1, hl.2.trans w1⟩
  · rw [hsl] at hv'
    rw [hfn] at e
    rcases List.mem_append.mp hv' with q | q
    · have q := List.mem_singleton.mp q
      subst q
      rw [eb, hslv, hgk]
      refine ⟨x10b, by omega, ?_⟩
      rw [ty1, ← E3, ty0, ← q2, c1.a (by omega) (by omega)]
    · exact absurd e (v4 v q)
  · rw [hfn] at e hc ⊢
    have hc : v ∈ cd.cg (D.vl (X.hp o').pt) := hc
    have hidx : (cd.cg (D.vl (X.hp o').pt)).idxOf v < (cd.cg (D.vl (X.hp o').pt)).length := List.idxOf_lt_length_of_mem hc
    have hco : (cd.cg (D.vl (X.hp o').pt)).idxOf v < (X.hp o').co.length := by omega
    have hw : (X.hp o').co[(cd.cg (D.vl (X.hp o').pt)).idxOf v]? = some ((X.hp o').co[(cd.cg (D.vl (X.hp o').pt)).idxOf v]'hco) := List.getElem?_eq_getElem hco
    generalize (X.hp o').co[(cd.cg (D.vl (X.hp o').pt)).idxOf v]'hco = ww at hw
    have hC := (C2 _ ww hw).1
    rw [show (cd.cg (D.vl (X.hp o').pt)).getD ((cd.cg (D.vl (X.hp o').pt)).idxOf v) 0 = v by rw [List.getD_eq_getElem?_getD, List.getElem?_eq_getElem hidx, List.getElem_idxOf hidx]; rfl] at hC
    rw [eb, x1, x2, x3, x4]
    exact ⟨x10 v hc, by omega, o', ww, hv, ho.1, ho.2, okd, hw, hC⟩
  · rw [ef] at hq ⊢
    rcases kp1 q k ⟨r1, r2⟩ hq with g | ⟨r, g1', g2'⟩
    · exact .inl g
    · exact .inr ⟨r, g1', g2'.1, by have := g2'.2; omega⟩
  · rw [ef] at hr
    exact (kp2 k hk).2.2.2 ⟨r, hr, hb.1, by omega⟩
  · have hx := g7 (n + 1) (uq ty n (E' (T.oC k0'))) (by omega) (fun k hk => uq_ne (by omega)) (by rw [Nat.add_sub_cancel, uq_self, ← E4, ty0, c1.b (by omega), q3])
    exact TK.to K i E (n + 1) _ _ nr av L dd hd (fun _ _ => rfl) hx
/-- it comes back -/
theorem T_ret {q b : Nat} (h : TK D rg cd T vd X ((8, q, b) :: K) i E n ty nr av L dd) : ∃ (i0 p' : Nat) (K' : List (Nat × Nat × Nat)) (E0 : Nat → trE) (av0 : Nat → Prop) (L0 dd0 : Nat), i = i0 + 1 ∧ K = (7, p', X.bs i) :: K' ∧ L0 ≤ L ∧ TK D rg cd T vd X K i0 E0 n ty nr av0 L0 dd0 := by
  rcases h with ⟨h0, _⟩ | ⟨h0, _⟩ | ⟨h0, i0, p', b', K', E0, av0, L0, dd0, k1, k2, k3, k4, k5⟩ | ⟨h0, _⟩
  · exact absurd h0 (by decide)
  · exact absurd h0 (by decide)
  · exact ⟨i0, p', K', E0, av0, L0, dd0, k1, by rw [k3]; exact k2, k4, k5⟩
  · rcases h0 with ⟨h0, _⟩ | ⟨h0, _⟩ | ⟨h0, _⟩ | ⟨h0, _⟩ | ⟨h0, _⟩ | ⟨h0, _⟩ <;> exact absurd h0 (by decide)
/-- a part is over, its regions go -/
theorem T_end {b : Nat} (hH : HOK X.hp X.no) (hno : X.no ≤ 30001) (h : TK D rg cd T vd X ((7, p, b) :: K) i E n ty nr av L dd) (hV : ∀ k, k < n → VTy D rg cd T X.hp X.no X.B (X.sv k) (ty k) ∧ LVv X.hp X.no X.ser nr (X.sv k)) (hx : X' = (uq X.sv b (X.sv (n - 1)), X.2)) :
    b < n ∧ (D.bP (X.ff i) ≤ p ∧ p < D.bP (X.ff i + 1)) ∧ ∃ (E0 : Nat → trE) (av0 : Nat → Prop) (nr0 L0 dd0 : Nat) (ty' : Nat → trE), nr0 + (ownN rg (X.ff i) p).length = nr ∧ L0 ≤ b ∧ TK D rg cd T vd X' K i E0 (b + 1) ty' nr0 av0 L0 dd0 ∧ ∀ k, k < b + 1 → VTy D rg cd T X'.hp X'.no X'.B (X'.sv k) (ty' k) ∧ LVv X'.hp X'.no X'.ser nr0 (X'.sv k) := by
  rcases h with ⟨h0, _⟩ | ⟨h0, h1, h2, h3, h4, h5, E0, av0, nr0, L0, dd0, k1, k2, k3, k4, k5, k6, k7, k8, k9⟩ | ⟨h0, _⟩ | ⟨h0, _⟩
  · exact absurd h0 (by decide)
  · have e1 : X'.hp = X.hp := by rw [hx]; rfl
    have e2 : X'.no = X.no := by rw [hx]; rfl
    have e3 : X'.B = X.B := by rw [hx]; rfl
    have e4 : X'.ser = X.ser := by rw [hx]; rfl
    have e5 : X'.fr = X.fr := by rw [hx]; rfl
    have e6 : X'.aR = X.aR := by rw [hx]; rfl
    have e7 : X'.aV = X.aV := by rw [hx]; rfl
    have e8 : X'.sv = uq X.sv b (X.sv (n - 1)) := by rw [hx]; rfl
    have hd : DYK X X' i nr0 L0 dd0 av0 := ⟨⟨hH, by omega⟩, fun k hk => by rw [e8, uq_ne (by omega)], fun o _ _ => by rw [e1], by omega, by omega, fun r _ => by rw [e4], fun j _ => by rw [e5], fun j k _ => by rw [e6], fun k _ => by rw [e6], fun j e _ => by rw [e7], fun e _ => by rw [e7]⟩
    refine ⟨h1, ⟨h4, h5⟩, E0, av0, nr0, L0, dd0, uq ty b (E (T.oC p)), k1, k7, TK.to K i E0 (b + 1) _ _ nr0 av0 L0 dd0 hd (fun _ _ => rfl) k9, fun k hk => ?_⟩
    rw [e1, e2, e3, e4, e8]
    by_cases q : k = b
    · subst q
      rw [uq_self, uq_self, ← h3]
      obtain ⟨g1, g2⟩ := hV (n - 1) (by omega)
      exact ⟨g1, g2.leave hno (by omega) g1 (by rw [h3]; exact k3)⟩
    · rw [uq_ne q, uq_ne q]
      exact ⟨(hV k (by omega)).1, k4 k (by omega)⟩
  · exact absurd h0 (by decide)
  · rcases h0 with ⟨h0, _⟩ | ⟨h0, _⟩ | ⟨h0, _⟩ | ⟨h0, _⟩ | ⟨h0, _⟩ | ⟨h0, _⟩ <;> exact absurd h0 (by decide)
end CALLS
