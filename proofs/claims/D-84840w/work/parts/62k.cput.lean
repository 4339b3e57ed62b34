/-! ROOM FOR AN OBJECT: the component -/
section CPUT
variable {L : Nat} {xs : Nat → Int32} {σ σ' σ0 : tvS} {D : pgD} {rg : rgD} {cd : cdD} {X : dyD} {n nr wd pgs k t o p r N ev sz : Nat} {pl np : Nat → Nat} {fl : List Nat} {s : cSt} {pg : Nat → List Nat} {A : alD}
/-- the pool with the stack and what is reached -/
def CPs (D : pgD) (X : dyD) (n nr wd pgs : Nat) (s : cSt) (pl : Nat → Nat) (pg : Nat → List Nat) (fl : List Nat) (σ : tvS) : Prop := CPo s pg fl [] nr wd pgs σ ∧ CSt n X.sv pl σ ∧ CHp D X n pl s pg wd σ ∧ oSt s nr wd pgs X.no
/-- no room -/
def CFl (s' : cSt) (σ0 σ' : tvS) : Prop := frW COF σ0 σ' ∧ rd σ' 103 10 = i32 (s'.pk : Int) ∧ rd σ' 103 22 = i32 (s'.cl : Int) ∧ rd σ' 103 23 = i32 (s'.cp : Int) ∧ ∀ q, q ≠ 8 → q ≠ 9 → q ≠ 10 → q ≠ 22 → q ≠ 23 → q ≠ 24 → q ≠ 26 → rd σ' 103 q = rd σ0 103 q
/-- what stays -/
def CFk (σ0 σ' : tvS) : Prop := frW COF σ0 σ' ∧ ∀ q, q ≠ 8 → q ≠ 9 → q ≠ 10 → q ≠ 22 → q ≠ 23 → q ≠ 24 → q ≠ 26 → rd σ' 103 q = rd σ0 103 q
theorem CFk.refl : CFk σ σ := ⟨frW.refl, fun _ _ _ _ _ _ _ _ => rfl⟩
theorem CFk.tr {σ1 σ2 : tvS} (h : CFk σ0 σ1) (g : CFk σ1 σ2) : CFk σ0 σ2 := ⟨h.1.trans g.1, fun q a b c d e f k => by rw [g.2 q a b c d e f k, h.2 q a b c d e f k]⟩
theorem CFk.over {σ1 σ2 : tvS} {s' : cSt} (h : CFk σ0 σ1) (g : CFl s' σ1 σ2) : CFl s' σ0 σ2 := ⟨h.1.trans g.1, g.2.1, g.2.2.1, g.2.2.2.1, fun q a b c d e f k => by rw [g.2.2.2.2 q a b c d e f k, h.2 q a b c d e f k]⟩
theorem CPo.fr {ex : List Nat} (h : CPo s pg fl ex nr wd pgs σ) (h103 : ∀ q, q = 4 ∨ q = 5 ∨ q = 8 ∨ q = 9 ∨ q = 10 ∨ q = 19 ∨ q = 22 ∨ q = 23 → rd σ' 103 q = rd σ 103 q) (hr : ∀ j, j = 106 ∨ j = 107 ∨ j = 110 ∨ j = 111 ∨ j = 112 ∨ j = 113 ∨ j = 114 → ∀ q, rd σ' j q = rd σ j q) : CPo s pg fl ex nr wd pgs σ' := by
  obtain ⟨⟨c1, c2, c3, c4, c5, c6, c7, c8⟩, cb, cc, ce⟩ := h
  refine ⟨⟨by rw [h103 4 (by omega)]; exact c1, by rw [h103 5 (by omega)]; exact c2, by rw [h103 8 (by omega)]; exact c3, by rw [h103 9 (by omega)]; exact c4, by rw [h103 10 (by omega)]; exact c5, by rw [h103 19 (by omega)]; exact c6, by rw [h103 22 (by omega)]; exact c7, by rw [h103 23 (by omega)]; exact c8⟩, lkF.congr _ _ cb (fun q _ => hr 106 (by omega) q), fun q hq => ?_, ce⟩
  obtain ⟨⟨k1, k2, k3, k4⟩, k5, k6, k7, k8⟩ := cc q hq
  exact ⟨⟨by rw [hr 110 (by omega)]; exact k1, by rw [hr 111 (by omega)]; exact k2, lkF.congr _ _ k3 (fun y _ => hr 106 (by omega) y), fun y hy => by rw [hr 107 (by omega)]; exact k4 y hy⟩, by rw [hr 112 (by omega)]; exact k5, by rw [hr 113 (by omega)]; exact k6, by rw [hr 114 (by omega)]; exact k7, k8⟩
theorem CSt.fr {sv : Nat → vaL} (h : CSt n sv pl σ) (h1 : ∀ j, j = 100 ∨ j = 101 ∨ j = 102 → ∀ q, rd σ' j q = rd σ j q) : CSt n sv pl σ' := by
  obtain ⟨a, b, c⟩ := h
  exact ⟨by rw [h1 100 (by omega)]; exact a, b, fun k hk => by rw [h1 101 (by omega), h1 102 (by omega)]; exact c k hk⟩
theorem CHp.fr (h : CHp D X n pl s pg wd σ) (h1 : ∀ q, rd σ' 104 q = rd σ 104 q ∧ rd σ' 105 q = rd σ 105 q) : CHp D X n pl s pg wd σ' :=
  ⟨fun o ho => ⟨(h.1 o ho).1, (h.1 o ho).2.cong (fun j _ => h1 _) (fun _ _ _ => rfl)⟩, h.2⟩
/-- a field of the pool that none of it rests on -/
theorem CPs.w {q : Nat} {y : Int32} (h : CPs D X n nr wd pgs s pl pg fl σ) (hq : q = 24 ∨ q = 21) : CPs D X n nr wd pgs s pl pg fl (wr σ 103 q y) := by
  obtain ⟨h1, h2, h3, h4⟩ := h
  exact ⟨h1.fr (fun i hi => wr_nei (by omega)) (fun j hj i => wr_nek (by omega)), h2.fr (fun j hj i => wr_nek (by omega)), h3.fr (fun i => ⟨wr_nek (by decide), wr_nek (by decide)⟩), h4⟩
theorem CFk.w {y : Int32} : CFk σ (wr σ 103 24 y) := ⟨frW_wr rfl, fun q _ _ _ _ _ h _ => wr_nei h⟩
/-- a collection of the run's own -/
theorem once_c (hU : PUH X n nr wd N A) (hH : GCH D rg cd X n nr wd) (hC : CSz D rg cd σ) (h : CPs D X n nr wd pgs s pl pg fl σ) (hcp : s.cp < 10000000) (d : Nat) :
    (∃ (s' : cSt) (σ' : tvS) (pl' : Nat → Nat) (pg' : Nat → List Nat) (fl' : List Nat), coO A N pgs s = .inl s' ∧ rn L xs (d + 7) 248 0 [.ref 103] [] σ = some (.inl (some (.int 1)), σ') ∧ CPs D X n nr wd pgs s' pl' pg' fl' σ' ∧ s'.cp < 10000000 ∧ rd σ' 103 24 = 0 ∧ CFk σ σ') ∨
    (∃ (c : Nat) (s' : cSt) (σ' : tvS), coO A N pgs s = .inr (c, s') ∧ rn L xs (d + 7) 248 0 [.ref 103] [] σ = some (.inl (some (.int 0)), σ') ∧ rd σ' 103 24 = (if c = 3 then 1 else 0) ∧ (c = 3 ∨ c = 5) ∧ CFl s' σ σ') := by
  have h0 := h
  obtain ⟨h1, h2, h3, h4⟩ := h
  have a8 := h1.1.2.2.2.2.2.2.2
  by_cases c : s.cp < 50000
  · have hd : rn L xs (d + 7) 248 0 [.ref 103] [] σ = bI (rn L xs (d + 6) 231 0 [.ref 103, jv, jv] [] (wr σ 103 24 0)) (fun a2 s1 => cond (pv_c1 .eq a2) (rn L xs (d + 7) 248 36 [.ref 103] [] s1) (rn L xs (d + 7) 248 37 [.ref 103] [.int 1] s1)) X0 := by
      rw [e248_0, a8, show (50000 : Int32) = i32 50000 from rfl, c2_lt (by omega) (by omega) (by omega) (by omega), c_t (by omega), e248_14, e248_15 (d + 6), b01_0, cond_true, show pv_c1 .ne (0 : Int32) = false from rfl, cond_false]
    obtain ⟨g1, g2, g3, g4⟩ := h0.w (q := 24) (y := 0) (.inl rfl)
    have hC' : CSz D rg cd (wr σ 103 24 0) := fun j hj => by rw [wr_nek (by decide), wr_nek (by decide)]; exact hC j hj
    have eO : coO A N pgs s = coC A N pgs s := by show (if s.cp < 50000 then _ else _) = _; rw [if_pos c]
    have hno : X.no < 30000 := hU.2.2.2.2.1
    have hN : N ≤ 30000 := by
      have h5 := okQ_bfQ (hp := X.hp) (no := X.no) (by omega) hU.1 (okQ_stQ (by omega) n hU.2.2.1) N
      have := h5.len
      have := hU.2.2.2.2.2.2.1
      omega
    rcases collect_c (L := L) (xs := xs) hH hC' g1 g2 g3 g4 hU.2.2.1 hU.2.2.2.2.2.1 hU.2.2.2.2.2.2.1 hU.2.2.2.2.2.2.2.1 d with ⟨s', σ', np, pg', fl', b1, b2, b3, b4, b5, b6, b7, b8⟩ | ⟨σ', b1, b2, b3⟩
    · obtain ⟨k1, k2⟩ := PUH_coC hU h4 b1
      refine .inl ⟨s', σ', np, pg', fl', by rw [eO]; exact b1, ?_, ⟨b3, b4, b5, k1⟩, by omega, ?_, (CFk.w (y := 0)).tr ⟨b7, fun q z1 z2 z3 z4 z5 _ z6 => b8 q z1 z2 z3 z4 z5 z6⟩⟩
      · rw [hd, bI_ok b2, show pv_c1 .eq (1 : Int32) = false from rfl, cond_false, e248_37, b01_1, cond_true]
      · rw [b8 24 (by decide) (by decide) (by decide) (by decide) (by decide) (by decide), wr_self]
    · refine .inr ⟨5, _, σ', by rw [eO]; exact b1, ?_, ?_, .inr rfl, ?_⟩
      · rw [hd, bI_ok b2, show pv_c1 .eq (0 : Int32) = true from rfl, cond_true, e248_36, e248_37, b01_0, cond_true]
      · rw [b3.2.1 24 (by decide) (by decide) (by decide) (by decide), wr_self]; rfl
      · refine (CFk.w (y := 0)).over ⟨b3.1, b3.2.2, ?_, ?_, fun q z1 z2 z3 _ _ _ z6 => b3.2.1 q z1 z2 z3 z6⟩
        · rw [b3.2.1 22 (by decide) (by decide) (by decide) (by decide)]; exact g1.1.2.2.2.2.2.2.1
        · rw [b3.2.1 23 (by decide) (by decide) (by decide) (by decide)]; exact g1.1.2.2.2.2.2.2.2
  · have eO : coO A N pgs s = .inr (3, s) := by show (if s.cp < 50000 then _ else _) = _; rw [if_neg c]
    refine .inr ⟨3, s, wr σ 103 24 1, eO, ?_, by rw [wr_self]; rfl, .inl rfl, frW_wr rfl, ?_, ?_, ?_, fun q _ _ _ _ _ h _ => wr_nei h⟩
    · rw [e248_0, a8, show (50000 : Int32) = i32 50000 from rfl, c2_lt (by omega) (by omega) (by omega) (by omega), c_f (by omega), e248_15, b01_1, cond_true, show pv_c1 .ne (1 : Int32) = true from rfl, cond_true, e248_36, e248_37, b01_0, cond_true]
    · rw [wr_nei (by decide)]; exact h1.1.2.2.2.2.1
    · rw [wr_nei (by decide)]; exact h1.1.2.2.2.2.2.2.1
    · rw [wr_nei (by decide)]; exact h1.1.2.2.2.2.2.2.2
/-- objects stay in their places when a page comes -/
theorem PLa.take {x : obD} {a : Nat} (h : PLa pg s wd x a) (hu : (s.R x.gi).2.2 ≤ wd) (hp : p ∉ pg r) : PLa (uq pg r (pg r ++ [p])) (tkS s r) wd x a := by
  obtain ⟨q, q1, q2, q3⟩ := h
  by_cases e : x.gi = r
  · refine ⟨q, ?_, q2, ?_⟩
    · rw [e, uq_self]; rw [e] at q1; exact List.mem_append_left _ q1
    · rw [e, uq_self]
      have hlast : (pg r ++ [p]).getLast? = some p := by rw [List.getLast?_append]; rfl
      have hqp : p ≠ q := fun e' => hp (by rw [e']; rw [e] at q1; exact q1)
      rw [hlast, if_neg (fun e' => hqp (by injection e'))]
      by_cases c : (pg x.gi).getLast? = some q
      · rw [if_pos c] at q3; omega
      · rw [if_neg c] at q3; exact q3
  · have e1 : (tkS s r).R x.gi = s.R x.gi := uq_ne e
    exact ⟨q, by rw [uq_ne e]; exact q1, q2, by rw [uq_ne e, e1]; exact q3⟩
theorem PLa.place {x : obD} {a : Nat} (h : PLa pg s wd x a) : PLa pg (plP s r sz) wd x a := by
  obtain ⟨q, q1, q2, q3⟩ := h
  refine ⟨q, q1, q2, ?_⟩
  by_cases e : x.gi = r
  · have e1 : (plP s r sz).R x.gi = ((s.R r).1 + 1, (s.R r).2.1, (s.R r).2.2 + sz) := by rw [e]; exact uq_self
    rw [e1]
    by_cases c : (pg x.gi).getLast? = some q
    · rw [if_pos c] at q3 ⊢
      rw [e] at q3
      show _ ≤ q * wd + ((s.R r).2.2 + sz)
      omega
    · rw [if_neg c] at q3 ⊢; exact q3
  · have e1 : (plP s r sz).R x.gi = s.R x.gi := uq_ne e
    rw [e1]; exact q3
/-- where the new object comes -/
def CNw (X : dyD) (n wd : Nat) (pl : Nat → Nat) (s : cSt) (pg : Nat → List Nat) (r sz to : Nat) : Prop := (∃ z, (pg r).getLast? = some z ∧ to = z * wd + (s.R r).2.2) ∧ to + sz ≤ 51200 ∧ ∀ o, RCO X n o → pl o + szO (X.hp o) ≤ to ∨ to + sz ≤ pl o
theorem at99_c (hH : GCH D rg cd X n nr wd) (h : CPs D X n nr wd pgs s pl pg fl σ) (hr : r < nr) {z : Nat} (hz : (pg r).getLast? = some z) (hu : (s.R r).2.2 + sz ≤ wd) (h21 : rd σ 103 21 = i32 (X.no : Int)) (v3 : Value) (d : Nat) :
    ∃ (σ' : tvS) (to : Nat), rn L xs (d + 2) 247 99 [.ref 103, .int (i32 (r : Int)), .int (i32 (sz : Int)), v3] [] σ = some (.inl (some (.int (i32 (to : Int)))), σ') ∧ CPo (plP s r sz) pg fl [] nr wd pgs σ' ∧ CSt n X.sv pl σ' ∧ CHp D X n pl (plP s r sz) pg wd σ' ∧ CNw X n wd pl s pg r sz to ∧ rd σ' 103 21 = i32 ((X.no + 1 : Nat) : Int) ∧ frW [103, 112, 113] σ σ' ∧ ∀ q, q ≠ 21 → rd σ' 103 q = rd σ 103 q := by
  obtain ⟨g1, g2, g3, g4⟩ := h.w (q := 21) (y := i32 ((X.no + 1 : Nat) : Int)) (.inr rfl)
  obtain ⟨σ', a1, a2, a3⟩ := place_c (L := L) (xs := xs) (sz := sz) g1 hr hz hu jv d
  obtain ⟨_, _, _, ⟨d1, d2, d3, d4⟩, _, f1, f2, f3, f4⟩ := id g1
  have hzm := List.mem_of_getLast? hz
  obtain ⟨z1, z2, z3, z4⟩ := (d1 r hr).2 z hzm
  have hpl := page_le (wd := wd) z1
  have hpw := pgs_wd f2 f3
  refine ⟨σ', z * wd + (s.R r).2.2, ?_, a2, g2.fr (fun j hj q => ?_), ⟨fun o ho => ⟨(g3.1 o ho).1.place, (g3.1 o ho).2.cong (fun j _ => ⟨a3.1 104 rfl _, a3.1 105 rfl _⟩) (fun _ _ _ => rfl)⟩, g3.2⟩, ⟨⟨z, hz, rfl⟩, by omega, fun o ho => ?_⟩, ?_, (frW_wr rfl).trans (a3.sub rfl), fun q hq => ?_⟩
  · rw [e247_99 (d + 1), h21, i32_up, bI_ok a1]
  · rcases hj with e | e | e <;> rw [e]
    · exact a3.1 100 rfl q
    · exact a3.1 101 rfl q
    · exact a3.1 102 rfl q
  · obtain ⟨⟨q, q1, q2, q3⟩, _⟩ := g3.1 o ho
    obtain ⟨_, hgi, _⟩ := hH.2.2 o ho
    obtain ⟨y1, y2, y3, y4⟩ := (d1 _ hgi).2 q q1
    by_cases e : q = z
    · have e2 : (X.hp o).gi = r := by
        rw [e] at q1
        exact z4 _ hgi q1
      rw [e2, e, hz, if_pos rfl] at q3
      left; omega
    · have q3' : pl o + szO (X.hp o) ≤ q * wd + wd := by
        have := (g4.2.2.2 _ hgi).2
        by_cases c : (pg (X.hp o).gi).getLast? = some q
        · rw [if_pos c] at q3; omega
        · rw [if_neg c] at q3; exact q3
      exact page_ne (wd := wd) e q2 q3' (by omega) (by omega)
  · rw [a3.1 103 rfl, wr_self]
  · rw [a3.1 103 rfl, wr_nei hq]
/-- what comes of a success -/
def CPdn (D : pgD) (X : dyD) (n nr wd pgs : Nat) (s' : cSt) (r sz to : Nat) (σ σ' : tvS) : Prop := ∃ (pl' : Nat → Nat) (pg' : Nat → List Nat) (fl' : List Nat), CPo (plP s' r sz) pg' fl' [] nr wd pgs σ' ∧ CSt n X.sv pl' σ' ∧ CHp D X n pl' (plP s' r sz) pg' wd σ' ∧ CNw X n wd pl' s' pg' r sz to ∧ oSt s' nr wd pgs X.no ∧ s'.cp < 10000000 ∧ (s'.R r).2.2 + sz ≤ wd ∧ rd σ' 103 21 = i32 ((X.no + 1 : Nat) : Int) ∧ frW COF σ σ' ∧ ∀ q, q ≠ 8 → q ≠ 9 → q ≠ 10 → q ≠ 21 → q ≠ 22 → q ≠ 23 → q ≠ 24 → q ≠ 26 → rd σ' 103 q = rd σ 103 q
theorem CPdn.of {s' : cSt} {to : Nat} {σ1 : tvS} (h : CFk σ0 σ) (g : CPdn D X n nr wd pgs s' r sz to σ σ1) : CPdn D X n nr wd pgs s' r sz to σ0 σ1 := by
  obtain ⟨a, b, c, g1, g2, g3, g4, g5, g5', g6, g7, g8, g9⟩ := g
  exact ⟨a, b, c, g1, g2, g3, g4, g5, g5', g6, g7, h.1.trans g8, fun q z1 z2 z3 z4 z5 z6 z7 z8 => by rw [g9 q z1 z2 z3 z4 z5 z6 z7 z8, h.2 q z1 z2 z3 z5 z6 z7 z8]⟩
theorem at70_c (hH : GCH D rg cd X n nr wd) (h : CPs D X n nr wd pgs s pl pg fl σ) (hr : r < nr) (hcp : s.cp < 10000000) (hsz : sz ≤ wd) (h21 : rd σ 103 21 = i32 (X.no : Int)) (v3 : Value) (d : Nat) :
    (∃ (s' : cSt) (σ' : tvS) (to : Nat), fitP wd pgs s r sz = some s' ∧ rn L xs (d + 3) 247 70 [.ref 103, .int (i32 (r : Int)), .int (i32 (sz : Int)), v3] [] σ = some (.inl (some (.int (i32 (to : Int)))), σ') ∧ CPdn D X n nr wd pgs s' r sz to σ σ') ∨
    (fitP wd pgs s r sz = none ∧ rn L xs (d + 3) 247 70 [.ref 103, .int (i32 (r : Int)), .int (i32 (sz : Int)), v3] [] σ = some (.inl (some (.int (i32 (-1)))), σ)) := by
  obtain ⟨h1, h2, h3, h4⟩ := id h
  obtain ⟨⟨a1, a2, a3, a4, a5, a6, a7, a8⟩, ab, ac, ⟨d1, d2, d3, d4⟩, ae, f1, f2, f3, f4⟩ := id h1
  have hfit := fits_c (L := L) (xs := xs) (r := r) (sz := sz) h1 hr (by have := (h4.2.2.2 r hr).2; omega) (by omega) (d + 1)
  have hU : s.U ≤ 400 := by have := h4.1; have := h4.2.1; omega
  have e2 : (2 : Int32) * i32 (s.U : Int) = i32 ((2 * s.U : Nat) : Int) := by rw [show (2 : Int32) = i32 2 from rfl, i32_mul]; congr 1
  by_cases c : (s.R r).2.1 ≠ 0 ∧ (s.R r).2.2 + sz ≤ wd
  · rw [if_pos c] at hfit
    obtain ⟨z, hz⟩ : ∃ z, (pg r).getLast? = some z := by
      cases e : (pg r).getLast? with
      | none =>
        have e2 := List.getLast?_eq_none_iff.mp e
        have := (ac r hr).2.2.2.2
        rw [e2] at this
        exact absurd this.symm c.1
      | some z => exact ⟨z, rfl⟩
    obtain ⟨σ', to, b1, b2, b3, b4, b5, b6, b7, b8⟩ := at99_c (L := L) (xs := xs) hH h hr hz c.2 h21 (dj v3) (d + 1)
    refine .inl ⟨s, σ', to, by unfold fitP; rw [if_pos c], ?_, pl, pg, fl, b2, b3, b4, b5, h4, hcp, c.2, b6, b7.sub rfl, fun q _ _ _ z4 _ _ _ _ => b8 q z4⟩
    rw [e247_70 (d + 2), bI_ok hfit, show pv_c1 .ne (1 : Int32) = true from rfl, cond_true]
    exact b1
  · rw [if_neg c] at hfit
    have hd : rn L xs (d + 3) 247 70 [.ref 103, .int (i32 (r : Int)), .int (i32 (sz : Int)), v3] [] σ = cond (decide ((2 * s.U : Nat) < (pgs : Int))) (rn L xs (d + 3) 247 94 [.ref 103, .int (i32 (r : Int)), .int (i32 (sz : Int)), dj v3] [] σ) (some (.inl (some (.int (i32 (-1)))), σ)) := by
      rw [e247_70 (d + 2), bI_ok hfit, show pv_c1 .ne (0 : Int32) = false from rfl, cond_false, a4, a1, e2, c2_lt (by omega) (by omega) (by omega) (by omega)]; rfl
    by_cases c2 : 2 * s.U < pgs
    · obtain ⟨p, fl', efl⟩ : ∃ p fl', fl = p :: fl' := by
        cases fl with
        | nil => have : ([] : List Nat).length = 0 := rfl; omega
        | cons p fl' => exact ⟨p, fl', rfl⟩
      subst efl
      obtain ⟨σ1, t1, t2, t3, t4, t5, t6⟩ := take_c (L := L) (xs := xs) h1 hr (by have := h4.2.1; omega) jv d
      have hpr : p ∉ pg r := fun hm => ((d1 r hr).2 p hm).2.1 List.mem_cons_self
      have eR : (tkS s r).R r = ((s.R r).1, (s.R r).2.1 + 1, 0) := uq_self
      have hps : CPs D X n nr wd pgs (tkS s r) pl (uq pg r (pg r ++ [p])) fl' σ1 := by
        refine ⟨t2, h2.fr (fun j hj q => ?_), ⟨fun o ho => ⟨(h3.1 o ho).1.take ((h4.2.2.2 _ (hH.2.2 o ho).2.1).2) hpr, (h3.1 o ho).2.cong (fun j _ => ⟨t3.1 104 rfl _, t3.1 105 rfl _⟩) (fun _ _ _ => rfl)⟩, h3.2⟩, ?_, ?_, ?_, fun q hq => ?_⟩
        · rcases hj with e | e | e <;> rw [e]
          · exact t3.1 100 rfl q
          · exact t3.1 101 rfl q
          · exact t3.1 102 rfl q
        · show s.U + 1 ≤ max s.pk (s.U + 1); omega
        · have := h4.2.1
          show max s.pk (s.U + 1) ≤ pgs; omega
        · have : sumF (fun q => (uq s.R r ((s.R r).1, (s.R r).2.1 + 1, 0) q).2.1) 0 nr + (s.R r).2.1 = sumF (fun q => (s.R q).2.1) 0 nr + ((s.R r).2.1 + 1) := sum_uq (R := s.R) (q := r) (z := ((s.R r).1, (s.R r).2.1 + 1, 0)) nr hr
          have h5 := h4.2.2.1
          show sumF (fun q => (uq s.R r ((s.R r).1, (s.R r).2.1 + 1, 0) q).2.1) 0 nr = s.U + 1
          omega
        · have := h4.2.2.2 q hq
          by_cases e : q = r
          · subst e; rw [eR]; exact ⟨this.1, Nat.zero_le _⟩
          · rw [show (tkS s r).R q = s.R q from uq_ne e]; exact this
      have hu : ((tkS s r).R r).2.2 + sz ≤ wd := by rw [eR]; show 0 + sz ≤ wd; omega
      obtain ⟨σ', to, b1, b2, b3, b4, b5, b6, b7, b8⟩ := at99_c (L := L) (xs := xs) (z := p) hH hps hr (by rw [uq_self, List.getLast?_append]; rfl) hu (by rw [t6 21 (by decide) (by decide) (by decide)]; exact h21) (dj (dj v3)) (d + 1)
      refine .inl ⟨tkS s r, σ', to, by unfold fitP; rw [if_neg c, if_pos c2]; rfl, ?_, pl, _, fl', b2, b3, b4, b5, hps.2.2.2, hcp, hu, b6, (t3.sub rfl).trans (b7.sub rfl), fun q z1 z2 z3 z4 _ _ _ _ => by rw [b8 q z4]; exact t6 q z1 z2 z3⟩
      rw [hd, c_t (by omega), e247_94 (d + 2), bV_ok t1]
      exact b1
    · refine .inr ⟨by unfold fitP; rw [if_neg c, if_neg c2], ?_⟩
      rw [hd, c_f (by omega)]
/-- what comes of no room -/
theorem at39_c (hU : PUH X n nr wd N A) (hH : GCH D rg cd X n nr wd) (hC : CSz D rg cd σ) (h : CPs D X n nr wd pgs s pl pg fl σ) (hr : r < nr) (hcp : s.cp < 10000000) (hsz : sz ≤ wd) (h21 : rd σ 103 21 = i32 (X.no : Int)) (h24 : rd σ 103 24 = 0) (v3 : Value) (d : Nat) :
    (∃ (s' : cSt) (σ' : tvS) (to : Nat), fiP A N wd pgs s r sz = .inl s' ∧ rn L xs (d + 8) 247 39 [.ref 103, .int (i32 (r : Int)), .int (i32 (sz : Int)), v3] [] σ = some (.inl (some (.int (i32 (to : Int)))), σ') ∧ CPdn D X n nr wd pgs s' r sz to σ σ') ∨
    (∃ (c : Nat) (s' : cSt) (σ' : tvS), fiP A N wd pgs s r sz = .inr (c, s') ∧ rn L xs (d + 8) 247 39 [.ref 103, .int (i32 (r : Int)), .int (i32 (sz : Int)), v3] [] σ = some (.inl (some (.int (i32 (-1)))), σ') ∧ rd σ' 103 24 = (if c = 3 then 1 else 0) ∧ (c = 3 ∨ c = 5) ∧ CFl s' σ σ') := by
  obtain ⟨h1, h2, h3, h4⟩ := id h
  obtain ⟨⟨a1, a2, a3, a4, a5, a6, a7, a8⟩, ab, ac, ⟨d1, d2, d3, d4⟩, ae, f1, f2, f3, f4⟩ := id h1
  have hfit := fits_c (L := L) (xs := xs) (r := r) (sz := sz) h1 hr (by have := (h4.2.2.2 r hr).2; omega) (by omega) (d + 6)
  have hU4 : s.U ≤ 400 := by have := h4.1; have := h4.2.1; omega
  have e2 : (2 : Int32) * i32 (s.U : Int) = i32 ((2 * s.U : Nat) : Int) := by rw [show (2 : Int32) = i32 2 from rfl, i32_mul]; congr 1
  by_cases c : ((s.R r).2.1 ≠ 0 ∧ (s.R r).2.2 + sz ≤ wd) ∨ 2 * s.U < pgs
  · have hd : rn L xs (d + 8) 247 39 [.ref 103, .int (i32 (r : Int)), .int (i32 (sz : Int)), v3] [] σ = rn L xs (d + 8) 247 70 [.ref 103, .int (i32 (r : Int)), .int (i32 (sz : Int)), dj v3] [] σ := by
      rw [e247_39 (d + 7), bI_ok hfit]
      by_cases c1 : (s.R r).2.1 ≠ 0 ∧ (s.R r).2.2 + sz ≤ wd
      · rw [if_pos c1, show pv_c1 .ne (1 : Int32) = true from rfl, cond_true]
      · rw [if_neg c1, show pv_c1 .ne (0 : Int32) = false from rfl, cond_false, a4, a1, e2, c2_lt (by omega) (by omega) (by omega) (by omega), c_t (by omega)]
    rcases at70_c (L := L) (xs := xs) hH h hr hcp hsz h21 (dj v3) (d + 5) with ⟨s', σ', to, b1, b2, b3⟩ | ⟨b1, b2⟩
    · exact .inl ⟨s', σ', to, by unfold fiP; rw [b1], by rw [hd]; exact b2, b3⟩
    · exfalso
      unfold fitP at b1
      by_cases c1 : (s.R r).2.1 ≠ 0 ∧ (s.R r).2.2 + sz ≤ wd
      · rw [if_pos c1] at b1; cases b1
      · rw [if_neg c1, if_pos (by omega)] at b1; cases b1
  · have c1 : ¬ ((s.R r).2.1 ≠ 0 ∧ (s.R r).2.2 + sz ≤ wd) := fun q => c (.inl q)
    have c2 : ¬ 2 * s.U < pgs := fun q => c (.inr q)
    have ef : fitP wd pgs s r sz = none := by unfold fitP; rw [if_neg c1, if_neg c2]
    have hd : rn L xs (d + 8) 247 39 [.ref 103, .int (i32 (r : Int)), .int (i32 (sz : Int)), v3] [] σ = bI (rn L xs (d + 7) 248 0 [.ref 103] [] σ) (fun a4 s3 => cond (pv_c1 .ne a4) (rn L xs (d + 8) 247 70 [.ref 103, .int (i32 (r : Int)), .int (i32 (sz : Int)), (dj (dj v3))] [] s3) (some (.inl (some (.int (i32 (-1)))), s3))) X0 := by
      rw [e247_39 (d + 7), bI_ok hfit, if_neg c1, show pv_c1 .ne (0 : Int32) = false from rfl, cond_false, a4, a1, e2, c2_lt (by omega) (by omega) (by omega) (by omega), c_f (by omega)]; rfl
    rcases once_c (L := L) (xs := xs) hU hH hC h hcp d with ⟨s1, σ1, pl1, pg1, fl1, b1, b2, b3, b4, b5, b6⟩ | ⟨cc, s', σ', b1, b2, b3, b4, b5⟩
    · rcases at70_c (L := L) (xs := xs) hH b3 hr b4 hsz (by rw [b6.2 21 (by decide) (by decide) (by decide) (by decide) (by decide) (by decide) (by decide)]; exact h21) (dj (dj v3)) (d + 5) with ⟨s', σ', to, g1, g2, g3⟩ | ⟨g1, g2⟩
      · refine .inl ⟨s', σ', to, by unfold fiP; rw [ef]; show (match coO A N pgs s with | .inr e => _ | .inl s1 => _) = _; rw [b1]; show (match fitP wd pgs s1 r sz with | some s' => _ | none => _) = _; rw [g1], ?_, g3.of b6⟩
        rw [hd, bI_ok b2, show pv_c1 .ne (1 : Int32) = true from rfl, cond_true]; exact g2
      · refine .inr ⟨5, s1, σ1, by unfold fiP; rw [ef]; show (match coO A N pgs s with | .inr e => _ | .inl s1 => _) = _; rw [b1]; show (match fitP wd pgs s1 r sz with | some s' => _ | none => _) = _; rw [g1], ?_, b5, .inr rfl, b6.1, b3.1.1.2.2.2.2.1, b3.1.1.2.2.2.2.2.2.1, b3.1.1.2.2.2.2.2.2.2, b6.2⟩
        rw [hd, bI_ok b2, show pv_c1 .ne (1 : Int32) = true from rfl, cond_true]; exact g2
    · refine .inr ⟨cc, s', σ', by unfold fiP; rw [ef]; show (match coO A N pgs s with | .inr e => _ | .inl s1 => _) = _; rw [b1], ?_, b3, b4, b5⟩
      rw [hd, bI_ok b2]; rfl
/-- room for an object, or none -/
theorem put_room (hU : PUH X n nr wd N A) (hH : GCH D rg cd X n nr wd) (hC : CSz D rg cd σ) (h : CPs D X n nr wd pgs s pl pg fl σ) (hr : r < nr) (hcp : s.cp < 10000000) (hsz : sz ≤ 128) (hev : ev ≤ 10000) (h21 : rd σ 103 21 = i32 (X.no : Int)) (d : Nat) :
    (∃ (s' : cSt) (σ' : tvS) (to : Nat), putP A N wd pgs ev X.no s r sz = .inl (plP s' r sz) ∧ rn L xs (d + 8) 247 0 [.ref 103, .int (i32 (r : Int)), .int (i32 (sz : Int)), .int (i32 (ev : Int))] [] σ = some (.inl (some (.int (i32 (to : Int)))), σ') ∧ CPdn D X n nr wd pgs s' r sz to σ σ') ∨
    (∃ (c : Nat) (s' : cSt) (σ' : tvS), putP A N wd pgs ev X.no s r sz = .inr (c, s') ∧ rn L xs (d + 8) 247 0 [.ref 103, .int (i32 (r : Int)), .int (i32 (sz : Int)), .int (i32 (ev : Int))] [] σ = some (.inl (some (.int (i32 (-1)))), σ') ∧ rd σ' 103 24 = (if c = 3 then 1 else 0) ∧ (c = 3 ∨ c = 5) ∧ CFl s' σ σ') := by
  have hP1 := h.1
  obtain ⟨⟨a1, a2, a3, a4, a5, a6, a7, a8⟩, ab, ac, _, ae, f1, f2, f3, f4⟩ := id hP1
  have hno : X.no < 30000 := hU.2.2.2.2.1
  by_cases c0 : wd < sz
  · refine .inr ⟨5, s, wr σ 103 24 0, by unfold putP; rw [if_pos c0], ?_, by rw [wr_self]; rfl, .inr rfl, frW_wr rfl, by rw [wr_nei (by decide)]; exact a5, by rw [wr_nei (by decide)]; exact a7, by rw [wr_nei (by decide)]; exact a8, fun q _ _ _ _ _ z _ => wr_nei z⟩
    rw [e247_0, a2, c2_le (by omega) (by omega) (by omega) (by omega), c_f (by omega)]; rfl
  · obtain ⟨σ1, e1⟩ : ∃ σ1, σ1 = wr σ 103 24 0 := ⟨_, rfl⟩
    have hp1 : CPs D X n nr wd pgs s pl pg fl σ1 := by rw [e1]; exact h.w (.inl rfl)
    have hk1 : CFk σ σ1 := by rw [e1]; exact CFk.w
    have hC1 : CSz D rg cd σ1 := fun j hj => by rw [hk1.1.1 39 rfl, hk1.1.1 84 rfl]; exact hC j hj
    have h21' : rd σ1 103 21 = i32 (X.no : Int) := by rw [e1, wr_nei (by decide)]; exact h21
    have h24' : rd σ1 103 24 = 0 := by rw [e1, wr_self]
    have hd0 : rn L xs (d + 8) 247 0 [.ref 103, .int (i32 (r : Int)), .int (i32 (sz : Int)), .int (i32 (ev : Int))] [] σ = rn L xs (d + 8) 247 15 [.ref 103, .int (i32 (r : Int)), .int (i32 (sz : Int)), .int (i32 (ev : Int))] [] σ1 := by
      rw [e247_0, a2, c2_le (by omega) (by omega) (by omega) (by omega), c_t (by omega), ← e1]
    have eP : putP A N wd pgs ev X.no s r sz = (match evP A N pgs ev X.no s with | .inr e => .inr e | .inl s1 => match fiP A N wd pgs s1 r sz with | .inr e => .inr e | .inl s2 => .inl (plP s2 r sz)) := by unfold putP; rw [if_neg c0]; rfl
    rw [hd0]
    by_cases c1 : 0 < ev ∧ (X.no + 1) % ev = 0
    · have eE : evP A N pgs ev X.no s = coO A N pgs s := by unfold evP; rw [if_pos c1]
      have hw0 : (i32 (ev : Int) = 0) = False := by
        refine eq_false (fun e => ?_)
        have := (i32_inj (by omega) (by omega) (by omega) (by omega)).mp (e.trans i32_0)
        omega
      have hd : rn L xs (d + 8) 247 15 [.ref 103, .int (i32 (r : Int)), .int (i32 (sz : Int)), .int (i32 (ev : Int))] [] σ1 = bI (rn L xs (d + 7) 248 0 [.ref 103] [] σ1) (fun a2 s1 => cond (pv_c1 .ne a2) (rn L xs (d + 8) 247 39 [.ref 103, .int (i32 (r : Int)), .int (i32 (sz : Int)), .int (i32 (ev : Int))] [] s1) (some (.inl (some (.int (i32 (-1)))), s1))) X0 := by
        rw [e247_15 (d + 7), c1_le (by omega) (by omega), c_f (by omega)]
        simp only [hw0, decide_false, Bool.not_false, cond_true]
        rw [h21', i32_up, i32_mod (by omega) (by omega), c1.2, show pv_c1 .ne (i32 ((0 : Nat) : Int)) = false from rfl, cond_false]; rfl
      rw [hd]
      rcases once_c (L := L) (xs := xs) hU hH hC1 hp1 hcp d with ⟨s1, σ2, pl1, pg1, fl1, b1, b2, b3, b4, b5, b6⟩ | ⟨cc, s', σ', b1, b2, b3, b4, b5⟩
      · rw [bI_ok b2, show pv_c1 .ne (1 : Int32) = true from rfl, cond_true]
        rcases at39_c (L := L) (xs := xs) (sz := sz) hU hH (fun j hj => by rw [b6.1.1 39 rfl, b6.1.1 84 rfl]; exact hC1 j hj) b3 hr b4 (by omega) (by rw [b6.2 21 (by decide) (by decide) (by decide) (by decide) (by decide) (by decide) (by decide)]; exact h21') b5 (.int (i32 (ev : Int))) d with ⟨s', σ', to, g1, g2, g3⟩ | ⟨cc, s', σ', g1, g2, g3, g4, g5⟩
        · refine .inl ⟨s', σ', to, ?_, g2, g3.of (hk1.tr b6)⟩
          rw [eP, eE, b1]; show (match fiP A N wd pgs s1 r sz with | .inr e => _ | .inl s2 => _) = _; rw [g1]
        · refine .inr ⟨cc, s', σ', ?_, g2, g3, g4, (hk1.tr b6).over g5⟩
          rw [eP, eE, b1]; show (match fiP A N wd pgs s1 r sz with | .inr e => _ | .inl s2 => _) = _; rw [g1]
      · rw [bI_ok b2]
        exact .inr ⟨cc, s', σ', by rw [eP, eE, b1], rfl, b3, b4, hk1.over b5⟩
    · have eE : evP A N pgs ev X.no s = .inl s := by unfold evP; rw [if_neg c1]
      have hd : rn L xs (d + 8) 247 15 [.ref 103, .int (i32 (r : Int)), .int (i32 (sz : Int)), .int (i32 (ev : Int))] [] σ1 = rn L xs (d + 8) 247 39 [.ref 103, .int (i32 (r : Int)), .int (i32 (sz : Int)), .int (i32 (ev : Int))] [] σ1 := by
        rw [e247_15 (d + 7), c1_le (by omega) (by omega)]
        by_cases c2 : 0 < ev
        · have hw0 : (i32 (ev : Int) = 0) = False := by
            refine eq_false (fun e => ?_)
            have := (i32_inj (by omega) (by omega) (by omega) (by omega)).mp (e.trans i32_0)
            omega
          have hm : (X.no + 1) % ev ≠ 0 := fun e => c1 ⟨c2, e⟩
          have hml := Nat.mod_lt (X.no + 1) c2
          rw [c_f (by omega)]
          simp only [hw0, decide_false, Bool.not_false, cond_true]
          rw [h21', i32_up, i32_mod (by omega) (by omega), c1_ne (by omega) (by omega), c_t (by omega)]
        · rw [c_t (by omega)]
      rw [hd]
      rcases at39_c (L := L) (xs := xs) (sz := sz) hU hH hC1 hp1 hr hcp (by omega) h21' h24' (.int (i32 (ev : Int))) d with ⟨s', σ', to, g1, g2, g3⟩ | ⟨cc, s', σ', g1, g2, g3, g4, g5⟩
      · refine .inl ⟨s', σ', to, ?_, g2, g3.of hk1⟩
        rw [eP, eE]; show (match fiP A N wd pgs s r sz with | .inr e => _ | .inl s2 => _) = _; rw [g1]
      · refine .inr ⟨cc, s', σ', ?_, g2, g3, g4, hk1.over g5⟩
        rw [eP, eE]; show (match fiP A N wd pgs s r sz with | .inr e => _ | .inl s2 => _) = _; rw [g1]
end CPUT
