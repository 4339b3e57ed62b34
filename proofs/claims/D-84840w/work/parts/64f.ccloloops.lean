/-! RUNS, COMPONENT: a closure -/
section CCLO
variable {L : Nat} {xs : Nat → Int32} {σ σ' σ0 σ1 σ2 : tvS} {D : pgD} {rg : rgD} {cd : cdD} {X X' : dyD} {n n' nr wd pgs cs a i st ev B no f k r sz to N p j0 : Nat} {pl : Nat → Nat} {fl : List Nat} {s s' : cSt} {pg : Nat → List Nat} {fn : Nat → Nat × Nat} {bk : Nat → Nat} {x : obD} {v : vaL} {A : alD} {sv : Nat → vaL} {vs : List vaL}
/-- where a caught value lies -/
def VCq (R : Nat → Int32) (X : dyD) (i n c : Nat) (w : vaL) : Prop := (R c = 0 ∧ ∃ q : Nat, R (c + 1) = i32 (q : Int) ∧ X.bs i + q < n ∧ w = X.sv (X.bs i + q)) ∨ (R c = 1 ∧ ∃ q o : Nat, R (c + 1) = i32 (q : Int) ∧ X.bs i < n ∧ X.sv (X.bs i) = (2, i32 (o : Int)) ∧ 1 ≤ o ∧ o ≤ X.no ∧ (X.hp o).co[q]? = some w)
/-- a word of an object -/
theorem word_c {q o : Nat} {w : vaL} (hP : CPo s pg fl [] nr wd pgs σ0) (hH : CHp D X n pl s pg wd σ) (hWf : WFo D rg cd (X.hp o)) (hgi : (X.hp o).gi < nr) (hu : (s.R (X.hp o).gi).2.2 ≤ wd) (ho : RCO X n o) (hw : (X.hp o).co[q]? = some w) (d : Nat) : pl o + 1 + q < 51200 ∧ rn L xs (d + 1) 245 0 [.ref 103, .int (i32 ((pl o + 1 + q : Nat) : Int))] [] σ = some (.inl (some (.int (cwd pl w))), σ) ∧ rn L xs (d + 1) 246 0 [.ref 103, .int (i32 ((pl o + 1 + q : Nat) : Int))] [] σ = some (.inl (some (.int (i32 (w.1 : Int)))), σ) := by
  obtain ⟨h1, h2⟩ := hH.1 o ho
  obtain ⟨pp, p1, p2, p3⟩ := h1.page hu
  obtain ⟨_, _, _, ⟨d1, _⟩, _, f1, f2, f3, f4⟩ := hP
  have := page_le (wd := wd) ((d1 _ hgi).2 pp p1).1
  have := pgs_wd f2 f3
  have hq := (List.getElem?_eq_some_iff.mp hw).1
  have hsz := hWf.sz
  obtain ⟨y1, y2⟩ := h2.2.1 q w hw
  refine ⟨by omega, ?_, ?_⟩
  · rw [e245_0, c_in (by omega) (by omega) (by omega), i32_ixn (by omega), y1]
  · rw [e246_0, c_in (by omega) (by omega) (by omega), i32_ixn (by omega), y2]
/-- what is caught -/
theorem ccau_loop {c : Nat} {C : List Nat} (hRS : RSc D rg cd cs σ0) (hU : PUH X n nr wd N A) (hH : GCH D rg cd X n nr wd) (hP : CPo s pg fl [] nr wd pgs σ0) (hu : ∀ r, r < nr → (s.R r).2.2 ≤ wd) (hS : CSt n X.sv pl σ0) (hHp : CHp D X n pl s pg wd σ0) (hN : CNw X n wd pl s' pg r sz to) (h9 : rd σ0 117 9 = i32 (X.bs i : Int)) (hbs : X.bs i ≤ 4000) (hj : j0 < D.bF (D.fc + 1)) (hj2 : j0 < 4101) (hC : C = cd.cg j0) (hvs : vs.length = C.length) (hsz : 1 + C.length ≤ sz) (hto : to + sz ≤ 51200) (hcl : C.length ≤ 100) (hcs : c + 2 * C.length ≤ cs) (hv : ∀ j w, vs[j]? = some w → VCq (rd σ0 95) X i n (c + 2 * j) w ∧ w.1 ≤ 2) (d : Nat) :
    ∀ (j t : Nat) (σ : tvS) (v1 v6 v7 v8 : Value), t + j = C.length → frW [104, 105, 117] σ0 σ → rd σ 117 8 = i32 ((c + 2 * t : Nat) : Int) → (∀ q, q ≠ 8 → rd σ 117 q = rd σ0 117 q) → (∀ q, (q < to + 1 ∨ to + 1 + t ≤ q) → rd σ 104 q = rd σ0 104 q ∧ rd σ 105 q = rd σ0 105 q) → (∀ q w, q < t → vs[q]? = some w → rd σ 104 (to + 1 + q) = cwd pl w ∧ rd σ 105 (to + 1 + q) = i32 (w.1 : Int)) →
      ∃ σ' v1' v6' v7' v8', rn L xs (d + 3) 269 50 [.ref 117, v1, .int (i32 (j0 : Int)), .int (i32 (to : Int)), .int (i32 ((to + 1 + t : Nat) : Int)), .int (i32 (t : Int)), v6, v7, v8] [] σ = rn L xs (d + 3) 269 184 [.ref 117, v1', .int (i32 (j0 : Int)), .int (i32 (to : Int)), .int (i32 ((to + 1 + C.length : Nat) : Int)), .int (i32 (C.length : Int)), v6', v7', v8'] [] σ' ∧ frW [104, 105, 117] σ0 σ' ∧ rd σ' 117 8 = i32 ((c + 2 * C.length : Nat) : Int) ∧ (∀ q, q ≠ 8 → rd σ' 117 q = rd σ0 117 q) ∧ (∀ q, (q < to + 1 ∨ to + 1 + C.length ≤ q) → rd σ' 104 q = rd σ0 104 q ∧ rd σ' 105 q = rd σ0 105 q) ∧ ∀ q w, vs[q]? = some w → rd σ' 104 (to + 1 + q) = cwd pl w ∧ rd σ' 105 (to + 1 + q) = i32 (w.1 : Int) := by
  have h39 := (hRS.2.2.2.1 j0 hj).1
  rw [← hC] at h39
  intro j
  induction j with
  | zero =>
    intro t σ v1 v6 v7 v8 ht w h8 h117 hm hn
    have e : t = C.length := by omega
    subst e
    refine ⟨σ, v1, v6, v7, v8, ?_, w, h8, h117, hm, fun q y hq => hn q y (by rw [← hvs]; exact (List.getElem?_eq_some_iff.mp hq).1) hq⟩
    rw [e269_50, c_in (by omega) (by omega) (by omega), i32_ixn (by omega), w.1 39 rfl, h39, c2_ge (by omega) (by omega) (by omega) (by omega), c_t (by omega)]
  | succ j ih =>
    intro t σ v1 v6 v7 v8 ht w h8 h117 hm hn
    have hlt : t < vs.length := by omega
    obtain ⟨y, hy⟩ : ∃ y, vs[t]? = some y := ⟨_, List.getElem?_eq_getElem hlt⟩
    obtain ⟨hvc, hy2⟩ := hv t y hy
    have hRS' : RSc D rg cd cs σ := hRS.fr w rfl
    have p1 := next_c (L := L) (xs := xs) hRS' h8 (by omega) d
    obtain ⟨σ1, e1⟩ : ∃ σ1, σ1 = wr σ 117 8 (i32 ((c + 2 * t + 1 : Nat) : Int)) := ⟨_, rfl⟩
    rw [← e1] at p1
    have w1 : frW [117] σ σ1 := by rw [e1]; exact frW_wr rfl
    have h81 : rd σ1 117 8 = i32 ((c + 2 * t + 1 : Nat) : Int) := by rw [e1, wr_self]
    have p2 := next_c (L := L) (xs := xs) (hRS'.fr w1 rfl) h81 (by omega) d
    obtain ⟨σ2, e2⟩ : ∃ σ2, σ2 = wr σ1 117 8 (i32 ((c + 2 * t + 1 + 1 : Nat) : Int)) := ⟨_, rfl⟩
    rw [← e2] at p2
    have w2 : frW [117] σ σ2 := w1.trans (by rw [e2]; exact frW_wr rfl)
    have h82 : rd σ2 117 8 = i32 ((c + 2 * (t + 1) : Nat) : Int) := by rw [e2, wr_self]; rfl
    have q2 : ∀ q, q ≠ 8 → rd σ2 117 q = rd σ0 117 q := fun q hq => by rw [e2, wr_nei hq, e1, wr_nei hq]; exact h117 q hq
    have w02 : frW [104, 105, 117] σ0 σ2 := w.trans (w2.sub rfl)
    rw [w.1 95 rfl] at p1
    rw [w1.1 95 rfl, w.1 95 rfl] at p2
    have hS2 : CSt n X.sv pl σ2 := hS.fr (fun j hj q => by rcases hj with e | e | e <;> rw [e] <;> exact w02.1 _ rfl q)
    have hm2 : ∀ q, (q < to + 1 ∨ to + 1 + t ≤ q) → rd σ2 104 q = rd σ0 104 q ∧ rd σ2 105 q = rd σ0 105 q := fun q hq => by rw [w2.1 104 rfl, w2.1 105 rfl]; exact hm q hq
    -- the word is set
    obtain ⟨σ3, e3⟩ : ∃ σ3, σ3 = wr (wr σ2 104 (to + 1 + t) (cwd pl y)) 105 (to + 1 + t) (i32 (y.1 : Int)) := ⟨_, rfl⟩
    have p3 := set_c (L := L) (xs := xs) (σ := σ2) (k := to + 1 + t) (y := cwd pl y) (z := y.1) (by omega) hy2 (d + 1)
    rw [← e3] at p3
    have w3 : frW [104, 105] σ2 σ3 := by rw [e3]; exact (frW_wr rfl).trans (frW_wr rfl)
    have hd : ∃ v1' v6' v7' v8', rn L xs (d + 3) 269 50 [.ref 117, v1, .int (i32 (j0 : Int)), .int (i32 (to : Int)), .int (i32 ((to + 1 + t : Nat) : Int)), .int (i32 (t : Int)), v6, v7, v8] [] σ = rn L xs (d + 3) 269 50 [.ref 117, v1', .int (i32 (j0 : Int)), .int (i32 (to : Int)), .int (i32 ((to + 1 + (t + 1) : Nat) : Int)), .int (i32 ((t + 1 : Nat) : Int)), v6', v7', v8'] [] σ3 := by
      rcases hvc with ⟨g1, q, g2, g3, g4⟩ | ⟨g1, q, o, g2, g3, g4, g5, g6, g7⟩
      · rw [g1] at p1
        rw [g2] at p2
        have eb : i32 (X.bs i : Int) + i32 (q : Int) = i32 ((X.bs i + q : Nat) : Int) := by rw [i32_add]; congr 1
        have c1 := val_c (L := L) (xs := xs) (k := X.bs i + q) hS2 g3 (d + 1)
        have c2 := sort_c (L := L) (xs := xs) (k := X.bs i + q) hS2 g3 (d + 1)
        rw [← g4] at c1 c2
        refine ⟨dj (dj (dj (dj (dj v1)))), dj (dj (dj (.int 0))), .int (i32 (q : Int)), dj (dj (dj (dj (dj v8)))), ?_⟩
        rw [e269_50 (d + 2), c_in (by omega) (by omega) (by omega), i32_ixn (by omega), w.1 39 rfl, h39, c2_ge (by omega) (by omega) (by omega) (by omega), c_f (by omega), bI_ok p1, show pv_c2 .ne (0 : Int32) 1 = true from rfl, cond_true, e269_76, e269_77 (d + 2), bI_ok p2, show pv_c1 .eq (0 : Int32) = true from rfl, cond_true, e269_138 (d + 2), q2 9 (by decide), h9, eb, bI_ok c1, q2 9 (by decide), h9, eb, bI_ok c2, bV_ok p3, e269_175, i32_up, i32_up]
        rfl
      · rw [g1] at p1
        rw [g2] at p2
        have hRo : RCO X n o := ⟨X.bs i, g3, 0, g4, g5, g6⟩
        obtain ⟨hWo, hgi, hszo, _⟩ := hH.2.2 o hRo
        have hdis := hN.2.2 o hRo
        have hHp2 : CHp D X n pl s pg wd σ0 := hHp
        obtain ⟨z1, z2, z3⟩ := word_c (L := L) (xs := xs) (q := q) (w := y) hP hHp hWo hgi (hu _ hgi) hRo g7 (d + 1)
        have hq := (List.getElem?_eq_some_iff.mp g7).1
        have hszz := hWo.sz
        have ea : (i32 (pl o : Int) + 1) + i32 (q : Int) = i32 ((pl o + 1 + q : Nat) : Int) := by rw [i32_up, i32_add]; congr 1
        have c0 := val_c (L := L) (xs := xs) (k := X.bs i) hS2 g3 (d + 1)
        have ec : cwd pl (X.sv (X.bs i)) = i32 (pl o : Int) := by rw [g4]; unfold cwd; rw [if_pos rfl, oid_of (o := o) rfl (by have := hH.2.1; omega)]
        rw [ec] at c0
        obtain ⟨y1, y2⟩ := (hHp.1 o hRo).2.2.1 q y g7
        obtain ⟨m1, m2⟩ := hm2 (pl o + 1 + q) (by omega)
        have c1 : rn L xs (d + 2) 245 0 [.ref 103, .int (i32 ((pl o + 1 + q : Nat) : Int))] [] σ2 = some (.inl (some (.int (cwd pl y))), σ2) := by
          rw [e245_0, c_in (by omega) (by omega) (by omega), i32_ixn (by omega), m1, y1]
        have c2 : rn L xs (d + 2) 246 0 [.ref 103, .int (i32 ((pl o + 1 + q : Nat) : Int))] [] σ2 = some (.inl (some (.int (i32 (y.1 : Int)))), σ2) := by
          rw [e246_0, c_in (by omega) (by omega) (by omega), i32_ixn (by omega), m2, y2]
        refine ⟨dj (dj (dj (dj (dj (dj v1))))), .int 1, .int (i32 (q : Int)), .int (i32 ((pl o + 1 + q : Nat) : Int)), ?_⟩
        rw [e269_50 (d + 2), c_in (by omega) (by omega) (by omega), i32_ixn (by omega), w.1 39 rfl, h39, c2_ge (by omega) (by omega) (by omega) (by omega), c_f (by omega), bI_ok p1, show pv_c2 .ne (1 : Int32) 1 = false from rfl, cond_false, e269_77 (d + 2), bI_ok p2, show pv_c1 .eq (1 : Int32) = false from rfl, cond_false, q2 9 (by decide), h9, bI_ok c0, ea, bI_ok c1, bI_ok c2, bV_ok p3, e269_175, i32_up, i32_up]
        rfl
    obtain ⟨u1, u6, u7, u8, hd⟩ := hd
    obtain ⟨σ', v1', v6', v7', v8', b1, b2, b3, b4, b5, b6⟩ := ih (t + 1) σ3 u1 u6 u7 u8 (by omega) (w02.trans (w3.sub rfl)) (by rw [w3.1 117 rfl]; exact h82) (fun q hq => by rw [w3.1 117 rfl]; exact q2 q hq) (fun q hq => by
      rw [e3, wr_nek (by decide), wr_nei (by omega), wr_nei (by omega), wr_nek (by decide)]; exact hm2 q (by omega)) (fun q z hq hz => by
      by_cases e : q = t
      · subst e
        have ez : y = z := by rw [hy] at hz; injection hz
        rw [e3, wr_nek (by decide), wr_self, wr_self, ← ez]; exact ⟨rfl, rfl⟩
      · rw [e3, wr_nek (by decide), wr_nei (by omega), wr_nei (by omega), wr_nek (by decide), w2.1 104 rfl, w2.1 105 rfl]; exact hn q z (by omega) hz)
    exact ⟨σ', v1', v6', v7', v8', by rw [hd]; exact b1, b2, b3, b4, b5, b6⟩
/-- what is kept -/
theorem ckep_loop {kl : List Nat} {b0 : Nat} (hRS : RSc D rg cd cs σ0) (hF : CMf rg X bk i σ0) (hf : X.ff i = f) (hnK : ∀ j, j ≤ i → rg.nK (X.ff j) ≤ 60) (hj : j0 < D.bF (D.fc + 1)) (hj2 : j0 < 4101) (hkl : kl = rg.kp j0) (hk60 : kl.length ≤ 60) (hk : ∀ j, j < kl.length → 1 ≤ kl.getD j 0 ∧ kl.getD j 0 ≤ rg.nK f ∧ X.aR i (kl.getD j 0) < 2000) (hb : b0 + kl.length ≤ 51200) (x3 : Int32) (d : Nat) :
    ∀ (j t : Nat) (σ : tvS) (v1 v6 v7 v8 : Value), t + j = kl.length → frW [104, 105] σ0 σ → (∀ q, (q < b0 ∨ b0 + t ≤ q) → rd σ 104 q = rd σ0 104 q ∧ rd σ 105 q = rd σ0 105 q) → (∀ q, q < t → rd σ 104 (b0 + q) = i32 (X.aR i (kl.getD q 0) : Int) ∧ rd σ 105 (b0 + q) = 0) →
      ∃ σ' v1' v5' v6' v7' v8', rn L xs (d + 2) 269 187 [.ref 117, v1, .int (i32 (j0 : Int)), .int x3, .int (i32 (b0 : Int)), .int (i32 (t : Int)), v6, v7, v8] [] σ = rn L xs (d + 2) 269 241 [.ref 117, v1', .int (i32 (j0 : Int)), .int x3, .int (i32 (b0 : Int)), v5', v6', v7', v8'] [] σ' ∧ frW [104, 105] σ0 σ' ∧ (∀ q, (q < b0 ∨ b0 + kl.length ≤ q) → rd σ' 104 q = rd σ0 104 q ∧ rd σ' 105 q = rd σ0 105 q) ∧ ∀ q, q < kl.length → rd σ' 104 (b0 + q) = i32 (X.aR i (kl.getD q 0) : Int) ∧ rd σ' 105 (b0 + q) = 0 := by
  have h84 := (hRS.2.2.2.1 j0 hj).2
  rw [← hkl] at h84
  obtain ⟨kf, k1, k2, k3, k4, k5⟩ := hRS.2.2.2.2.1 j0 hj
  rw [← hkl] at k2 k3 k5
  obtain ⟨⟨m1, m2, m3, m4, m5⟩, m6, m7⟩ := hF
  have hnKi := hnK i (Nat.le_refl _)
  rw [hf] at hnKi
  have hhd := hdF_60 (rg := rg) (ff := X.ff) (i := i) (fun j hj => hnK j (by omega)) i (Nat.le_refl _)
  intro j
  induction j with
  | zero =>
    intro t σ v1 v6 v7 v8 ht w hm hn
    have e : t = kl.length := by omega
    subst e
    have p1 : rn L xs (d + 1) 161 0 [.ref 74, .int (i32 (j0 : Int))] [] σ = some (.inl (some (.int (i32 (kl.length : Int)))), σ) := by rw [e161_0, c_in (by omega) (by omega) (by omega), i32_ixn (by omega), w.1 84 rfl, h84]
    refine ⟨σ, dj v1, .int (i32 (kl.length : Int)), dj v6, dj v7, dj v8, ?_, w, hm, hn⟩
    rw [e269_187 (d + 1), bI_ok p1, c2_ge (by omega) (by omega) (by omega) (by omega), c_t (by omega)]
  | succ j ih =>
    intro t σ v1 v6 v7 v8 ht w hm hn
    obtain ⟨y1, y2, y3⟩ := hk t (by omega)
    have p1 : rn L xs (d + 1) 161 0 [.ref 74, .int (i32 (j0 : Int))] [] σ = some (.inl (some (.int (i32 (kl.length : Int)))), σ) := by rw [e161_0, c_in (by omega) (by omega) (by omega), i32_ixn (by omega), w.1 84 rfl, h84]
    have ek : i32 (kf : Int) + i32 (t : Int) = i32 ((kf + t : Nat) : Int) := by rw [i32_add]; congr 1
    have p2 : rn L xs (d + 1) 180 0 [.ref 74, .int (i32 (j0 : Int)), .int (i32 (t : Int))] [] σ = some (.inl (some (.int (i32 ((kl.getD t 0 : Nat) : Int)))), σ) := by
      rw [e180_0, c_in (by omega) (by omega) (by omega), i32_ixn (by omega), w.1 83 rfl, k1, ek, w.ln, c_in (by omega) (by omega) k4, i32_ixn (by omega), w.1 85 rfl, k5 t (by omega)]
    have eh : (i32 (hdF rg X.ff i : Int) + i32 ((kl.getD t 0 : Nat) : Int)) - 1 = i32 ((hdF rg X.ff i + kl.getD t 0 - 1 : Nat) : Int) := by rw [show (1 : Int32) = i32 1 from rfl, i32_add, i32_sub]; congr 1; omega
    have e118 := m7 i (kl.getD t 0) (Nat.le_refl _) y1 (by rw [hf]; exact y2) y3
    have eb : i32 (b0 : Int) + i32 (t : Int) = i32 ((b0 + t : Nat) : Int) := by rw [i32_add]; congr 1
    obtain ⟨σ1, e1⟩ : ∃ σ1, σ1 = wr (wr σ 104 (b0 + t) (i32 (X.aR i (kl.getD t 0) : Int))) 105 (b0 + t) (i32 ((0 : Nat) : Int)) := ⟨_, rfl⟩
    have p3 := set_c (L := L) (xs := xs) (σ := σ) (k := b0 + t) (y := i32 (X.aR i (kl.getD t 0) : Int)) (z := 0) (by omega) (by omega) d
    rw [← e1] at p3
    have p3 : rn L xs (d + 1) 238 0 [.ref 103, .int (i32 ((b0 + t : Nat) : Int)), .int (i32 (X.aR i (kl.getD t 0) : Int)), .int 0] [] σ = some (.inl none, σ1) := p3
    have w1 : frW [104, 105] σ σ1 := by rw [e1]; exact (frW_wr rfl).trans (frW_wr rfl)
    obtain ⟨σ', v1', v5', v6', v7', v8', b1, b2, b3, b4⟩ := ih (t + 1) σ1 (dj (dj (dj v1))) (dj (dj (dj v6))) (dj (dj (dj v7))) (dj (dj (dj v8))) (by omega) (w.trans w1) (fun q hq => by
      rw [e1, wr_nek (by decide), wr_nei (by omega), wr_nei (by omega), wr_nek (by decide)]; exact hm q (by omega)) (fun q hq => by
      by_cases e : q = t
      · subst e; rw [e1, wr_nek (by decide), wr_self, wr_self]; exact ⟨rfl, rfl⟩
      · rw [e1, wr_nek (by decide), wr_nei (by omega), wr_nei (by omega), wr_nek (by decide)]; exact hn q (by omega))
    refine ⟨σ', v1', v5', v6', v7', v8', ?_, b2, b3, b4⟩
    rw [e269_187 (d + 1), bI_ok p1, c2_ge (by omega) (by omega) (by omega) (by omega), c_f (by omega), bI_ok p2, w.1 117 rfl, m3, eh, c_in (by omega) (by omega) (by omega), i32_ixn (by omega), w.1 118 rfl, e118, eb, bV_ok p3, i32_up]
    exact b1
end CCLO
