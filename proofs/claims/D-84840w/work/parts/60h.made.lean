/-! RUNS: objects are made -/
section MADE
variable {D : pgD} {m : Nat} {rg : rgD} {cd : cdD} {T : tsD} {vd : Nat → Nat} {X X' : dyD} {E : Nat → trE} {ty ty' : Nat → trE} {i n nr L dd p : Nat} {av : Nat → Prop} {K : List (Nat × Nat × Nat)} {hp : Nat → obD} {no : Nat} {x : obD} {ser : Nat → Nat}
theorem HOK.new (h : HOK hp no) (hx : ∀ w, w ∈ x.co → VOK no w) : HOK (uq hp (no + 1) x) (no + 1) := fun o o1 o2 w hw => by
  by_cases q : o = no + 1
  · subst q
    rw [uq_self] at hw
    exact hx w hw
  · rw [uq_ne q] at hw
    exact h o o1 (by omega) w hw
theorem LVv.new (hno : no + 1 ≤ 30001) (hH : HOK hp no) (hx : ∀ w, w ∈ x.co → LVv hp no ser nr w) (hg : x.gi < nr ∧ ser x.gi = x.se) (hk : ∀ r s, (r, s) ∈ x.kp → r < nr ∧ ser r = s) : LVv (uq hp (no + 1) x) (no + 1) ser nr (2, i32 ((no + 1 : Nat) : Int)) := ⟨fun _ => ⟨no + 1, rfl, by omega, Nat.le_refl _⟩, fun o ⟨j, ho⟩ => by
  have inj : ∀ o' : Nat, o' ≤ no + 1 → (2, i32 ((no + 1 : Nat) : Int)) = ((2, i32 (o' : Int)) : vaL) → o' = no + 1 := fun o' h1 e => by
    have := (i32_inj (by omega) (by omega) (by omega) (by omega)).mp (congrArg Prod.snd e)
    omega
  cases j with
  | zero =>
    obtain ⟨e, o1, o2⟩ := ho
    have e' := inj o o2 e
    subst e'
    rw [uq_self]
    exact ⟨hg, hk⟩
  | succ j =>
    obtain ⟨o', w, e, o1, o2, hw, hr⟩ := ho
    have e' := inj o' o2 e
    subst e'
    rw [uq_self] at hw
    have := (hx w hw).mono (hp' := uq hp (no + 1) x) (no' := no + 1) (ser' := ser) (nr' := nr) hno hH (by omega) (fun o _ h2 => uq_ne (by omega)) (Nat.le_refl _) (fun _ _ => rfl)
    exact this.2 o ⟨j, hr⟩⟩
/-- one object more -/
def NEWo (X X' : dyD) (L : Nat) (x : obD) : Prop :=
  (∀ k, k < L → X'.sv k = X.sv k) ∧ X'.sv L = (2, i32 ((X.no + 1 : Nat) : Int)) ∧ X'.hp = uq X.hp (X.no + 1) x ∧ X'.no = X.no + 1 ∧ X'.B = X.B ∧ X'.ser = X.ser ∧ X'.fr = X.fr ∧ X'.aR = X.aR ∧ X'.aV = X.aV
theorem NEWo.dyk (h : NEWo X X' L x) (hH : HOK X.hp X.no) (hno : X.no + 1 ≤ 30001) : DYK X X' i nr L dd av := by
  obtain ⟨a1, a2, a3, a4, a5, a6, a7, a8, a9⟩ := h
  exact ⟨⟨hH, by omega⟩, a1, fun o _ h2 => by rw [a3, uq_ne (by omega)], by omega, by omega, fun r _ => by rw [a6], fun j _ => by rw [a7], fun j k _ => by rw [a8], fun k _ => by rw [a8], fun j e _ => by rw [a9], fun e _ => by rw [a9]⟩
theorem VTy.grow {B : Nat} {v : vaL} {t : trE} (h : VTy D rg cd T hp no B v t) : VTy D rg cd T (uq hp (no + 1) x) (no + 1) B v t := h.mono (fun o _ h2 => uq_ne (by omega)) (by omega) (Nat.le_refl _)
/-- a pair or a cell is of its part's type -/
theorem T_two {a b : vaL} (hS : SPF D m rg cd T vd) (h : PRT D rg cd T vd X i E ty nr av L dd p p) (hk : D.K p = 4 ∨ D.K p = 16) {k0 k1 : Nat} (hkd : D.kd p = [k0, k1]) (ha : VTy D rg cd T X.hp X.no X.B a (E (T.oC k0))) (hb : VTy D rg cd T X.hp X.no X.B b (E (T.oC k1)))
    (hx : x = ((if D.K p = 4 then 1 else 2, p), (X.aR i (rg.nu p 0), X.ser (X.aR i (rg.nu p 0))), [a, b], [])) : X.aR i (rg.nu p 0) < nr ∧ VTy D rg cd T (uq X.hp (X.no + 1) x) (X.no + 1) X.B (2, i32 ((X.no + 1 : Nat) : Int)) (E (T.oC p)) := by
  have hpn : PNu D rg (X.ff i) p (rg.nu p 0) := .inl ⟨by omega, rfl⟩
  obtain ⟨v1, v2, v3⟩ := h.put hS hpn
  obtain ⟨⟨a1, a2, a3, a4, a5⟩, ⟨c1, c2, c3⟩, _⟩ := h
  obtain ⟨y1, y2, y3, y4⟩ := c3 _ v1
  have hkc := (hS.2.2.2.2.2.2.1 _ p _ a1 a2 a3 hpn).2.2.2 (by omega)
  rw [hkc] at y4
  refine ⟨y3, ?_⟩
  obtain ⟨t4, t16, _⟩ := (hS.2.2.2.2.1 _ p a1 a2 a3).1.2.2.2.1 k0 k1 hkd
  rcases hk with e | e
  · obtain ⟨q1, q2, q3⟩ := t4 e
    rw [if_pos e] at hx
    refine VTy.pair (a := a) (b := b) (by omega) (Nat.le_refl _) ?_ ?_ ?_ ?_ (by rw [c1.k (by omega) (by omega), q1]) ?_ ?_
    · rw [uq_self, hx]; exact y4
    · rw [uq_self, hx]; rfl
    · rw [uq_self, hx]; rfl
    · rw [uq_self, hx]; rfl
    · rw [c1.a (by omega) (by omega), q2]; exact ha.grow
    · rw [c1.b (by omega), q3]; exact hb.grow
  · obtain ⟨q1, q2, q3⟩ := t16 e
    rw [if_neg (by omega)] at hx
    refine VTy.cell (a := a) (b := b) (by omega) (Nat.le_refl _) ?_ ?_ ?_ ?_ (by rw [c1.k (by omega) (by omega), q1]) ?_ ?_
    · rw [uq_self, hx]; exact y4
    · rw [uq_self, hx]; rfl
    · rw [uq_self, hx]; rfl
    · rw [uq_self, hx]; rfl
    · rw [c1.a (by omega) (by omega), q2]; exact ha.grow
    · rw [← q3]; exact hb.grow
/-- what a fn keeps is there -/
theorem T_keep (hS : SPF D m rg cd T vd) (h : PRT D rg cd T vd X i E ty nr av L dd p p) (hk : D.K p = 17) {k0 k : Nat} (hkd : D.kd p = [k0]) (hkp : k ∈ rg.kp (D.vl p)) : av k := by
  obtain ⟨⟨a1, a2, a3, a4, a5⟩, _, _, d1, _⟩ := h
  obtain ⟨_, kp2⟩ := hS.2.2.2.2.2.2.2.1 _ _ k0 a1 a2 a3 hk hkd
  obtain ⟨_, _, ⟨q, q1, q2⟩, q3⟩ := kp2 k hkp
  have hcn := ((hS.1.2.2 _ a1).2.2.1 p a2 a3).2.1
  rw [hkd] at hcn
  obtain ⟨z1, z2, z3, z4⟩ := hcn
  have z4 : k0 + 1 = p := z4
  obtain ⟨e1, e2⟩ := q1
  rcases d1 q k (by omega) (by omega) q2 with g | ⟨r, g1, g2, g3⟩
  · exact g
  · exact absurd ⟨r, g1, by omega, by omega⟩ q3
/-- a closure is of its part's type -/
theorem T_clo {cs : List vaL} (hS : SPF D m rg cd T vd) (h : PRT D rg cd T vd X i E ty nr av L dd p p) (hk : D.K p = 17) {k0 : Nat} (hkd : D.kd p = [k0]) (hl : cs.length = (cd.cg (D.vl p)).length) (hc : ∀ j w, cs[j]? = some w → VTy D rg cd T X.hp X.no X.B w (E (T.vC ((cd.cg (D.vl p)).getD j 0))))
    (hx : x = ((3, p), (X.aR i (rg.nu p 0), X.ser (X.aR i (rg.nu p 0))), cs, (rg.kp (D.vl p)).map (fun k => (X.aR i k, X.ser (X.aR i k))))) : X.aR i (rg.nu p 0) < nr ∧ (∀ r s, (r, s) ∈ x.kp → r < nr ∧ X.ser r = s) ∧ VTy D rg cd T (uq X.hp (X.no + 1) x) (X.no + 1) X.B (2, i32 ((X.no + 1 : Nat) : Int)) (E (T.oC p)) := by
  have hp0 := h
  have hpn : PNu D rg (X.ff i) p (rg.nu p 0) := .inl ⟨by omega, rfl⟩
  obtain ⟨v1, v2, v3⟩ := h.put hS hpn
  obtain ⟨⟨a1, a2, a3, a4, a5⟩, ⟨c1, c2, c3⟩, _⟩ := h
  obtain ⟨y1, y2, y3, y4⟩ := c3 _ v1
  have hkc := (hS.2.2.2.2.2.2.1 _ p _ a1 a2 a3 hpn).2.2.2 (by omega)
  rw [hkc] at y4
  obtain ⟨t1, t2, t3, t4, t5⟩ := ((hS.2.2.2.2.1 _ p a1 a2 a3).1.2.2.2.2.1 k0 hkd).2.2 hk
  refine ⟨y3, fun r s hrs => ?_, ?_⟩
  · rw [hx] at hrs
    obtain ⟨k, k1, k2⟩ := List.mem_map.mp hrs
    injection k2 with k2 k3
    obtain ⟨_, _, z3, _⟩ := c3 k (T_keep hS hp0 hk hkd k1)
    rw [← k2, ← k3]
    exact ⟨z3, rfl⟩
  · refine VTy.clo (by omega) (Nat.le_refl _) (by rw [uq_self, hx]; exact y4) (by rw [uq_self, hx]; rfl) ?_
    have e1 : (uq X.hp (X.no + 1) x (X.no + 1)).pt = p := by rw [uq_self, hx]; rfl
    have e2 : (uq X.hp (X.no + 1) x (X.no + 1)).co = cs := by rw [uq_self, hx]; rfl
    have e3 : (uq X.hp (X.no + 1) x (X.no + 1)).kp = (rg.kp (D.vl p)).map (fun k => (X.aR i k, X.ser (X.aR i k))) := by rw [uq_self, hx]; rfl
    unfold CLO
    rw [e1, e2, e3]
    refine ⟨by rw [c1.k (by omega) (by omega), t1], X.ff i, k0, E, ⟨a1, a2, a3, hk, hkd⟩, c1, c2, ⟨by rw [c1.a (by omega) (by omega), t2], by rw [c1.b (by omega), t3]⟩, ⟨hl, fun j w hw => ⟨(hc j w hw).grow, fun z hz => ?_⟩⟩, ⟨List.length_map _, fun j r s hrs => ?_⟩⟩
    · have hj : j < (cd.cg (D.vl p)).length := by have := (List.getElem?_eq_some_iff.mp hw).1; omega
      refine c1.hl t1 (t4 _ ?_) hz
      rw [List.getD_eq_getElem?_getD, List.getElem?_eq_getElem hj]; exact List.getElem_mem hj
    · rw [List.getElem?_map] at hrs
      cases e : (rg.kp (D.vl p))[j]? with
      | none => rw [e] at hrs; cases hrs
      | some k =>
        rw [e] at hrs
        injection hrs with hrs
        injection hrs with k2 k3
        have hgd : (rg.kp (D.vl p)).getD j 0 = k := by rw [List.getD_eq_getElem?_getD, e]; rfl
        have hmem := List.mem_of_getElem? e
        obtain ⟨g1, g2, g3, g4⟩ := c3 k (T_keep hS hp0 hk hkd hmem)
        obtain ⟨y, m1, m2⟩ := t5 k hmem
        obtain ⟨n1, _⟩ := hS.2.2.2.2.2.1 _ k a1 g1 g2
        rw [hgd, ← k3, g4]
        refine ⟨rfl, c1.hl t1 m1 (c1.rc m2 (RGS_s ?_))⟩
        rw [c1.k (by omega) (hS.2.2.2.1 _)]; exact n1
end MADE
