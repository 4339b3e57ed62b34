/-! RUNS, COMPONENT: numbers, parts of objects, choices, calls -/
section COPS
variable {L : Nat} {xs : Nat → Int32} {σ σ' σ0 σ1 σ2 : tvS} {D : pgD} {rg : rgD} {cd : cdD} {X X' : dyD} {n n' nr wd pgs cs a i st ev B no f k r sz to N p j0 o q κ : Nat} {pl : Nat → Nat} {fl : List Nat} {s s' : cSt} {pg : Nat → List Nat} {fn : Nat → Nat × Nat} {bk : Nat → Nat} {x : obD} {v : vaL} {sv : Nat → vaL}
/-- a result -/
theorem result_c (hκ : 8 ≤ κ ∧ κ ≤ 15) (u w : Int32) (hz : ¬ ((κ = 11 ∨ κ = 12) ∧ w = 0)) (d : Nat) : rn L xs (d + 1) 277 0 [.int (i32 ((4 + κ : Nat) : Int)), .int u, .int w] [] σ = some (.inl (some (.int (arR κ u w))), σ) := by
  rw [e277_0, swk_of (sw277 (4 + κ) (by omega) (by omega))]
  have ek : κ = 8 ∨ κ = 9 ∨ κ = 10 ∨ κ = 11 ∨ κ = 12 ∨ κ = 13 ∨ κ = 14 ∨ κ = 15 := by omega
  rcases ek with e | e | e | e | e | e | e | e <;> subst e
  · rw [show t277 (4 + 8) = 44 from rfl, e277_44]; rfl
  · rw [show t277 (4 + 9) = 48 from rfl, e277_48]; rfl
  · rw [show t277 (4 + 10) = 52 from rfl, e277_52]; rfl
  · rw [show t277 (4 + 11) = 56 from rfl, e277_56, nz_false (fun h => hz ⟨.inl rfl, h⟩), cond_true]; rfl
  · rw [show t277 (4 + 12) = 60 from rfl, e277_60, nz_false (fun h => hz ⟨.inr rfl, h⟩), cond_true]; rfl
  · rw [show t277 (4 + 13) = 64 from rfl, e277_64]
    have er : arR 13 u w = (if pv_c2 .ne u w = true then 0 else 1) := rfl
    rw [er]
    cases pv_c2 .ne u w with
    | true => rw [cond_true, e277_73, e277_74, if_pos rfl]
    | false => rw [cond_false, e277_74, if_neg (by decide)]
  · rw [show t277 (4 + 14) = 75 from rfl, e277_75]
    have er : arR 14 u w = (if pv_c2 .ge u w = true then 0 else 1) := rfl
    rw [er]
    cases pv_c2 .ge u w with
    | true => rw [cond_true, e277_84, e277_85, if_pos rfl]
    | false => rw [cond_false, e277_85, if_neg (by decide)]
  · rw [show t277 (4 + 15) = 86 from rfl, e277_86]
    have er : arR 15 u w = (if pv_c2 .gt u w = true then 0 else 1) := rfl
    rw [er]
    cases pv_c2 .gt u w with
    | true => rw [cond_true, e277_95, e277_96, if_pos rfl]
    | false => rw [cond_false, e277_96, if_neg (by decide)]
/-- numbers are reckoned -/
theorem creck_c (hκ : 8 ≤ κ ∧ κ ≤ 15) (hP : CPo s pg fl [] nr wd pgs σ) (hS : CSt n sv pl σ) (hM : CMc fn B no st ev nr σ) (hp1 : 1 ≤ pgs) (hn : 2 ≤ n) (h1 : (sv (n - 1)).1 = 0) (h2 : (sv (n - 2)).1 = 0) (d : Nat) :
    ((κ = 11 ∨ κ = 12) ∧ (sv (n - 1)).2 = 0 ∧ ∃ σ', rn L xs (d + 3) 276 0 [.ref 117, .int (i32 ((4 + κ : Nat) : Int)), jv, jv] [] σ = some (.inl none, σ') ∧ CVR st 6 s B no pgs wd ev σ' ∧ frW [100, 103, 106, 117] σ σ') ∨
    (¬ ((κ = 11 ∨ κ = 12) ∧ (sv (n - 1)).2 = 0) ∧ ∃ σ', rn L xs (d + 3) 276 0 [.ref 117, .int (i32 ((4 + κ : Nat) : Int)), jv, jv] [] σ = some (.inl none, σ') ∧ CSt (n - 1) (uq sv (n - 2) (0, arR κ (sv (n - 2)).2 (sv (n - 1)).2)) pl σ' ∧ frW [100, 101, 102] σ σ') := by
  have hn4 := hS.2.1
  have t1 := top_c (L := L) (xs := xs) hS (by omega) d
  have c1 := val_c (L := L) (xs := xs) (k := n - 1) hS (by omega) (d + 1)
  have c2 := val_c (L := L) (xs := xs) (k := n - 2) hS (by omega) (d + 1)
  have e1 : cwd pl (sv (n - 1)) = (sv (n - 1)).2 := by unfold cwd; rw [if_neg (by omega)]
  have e2 : cwd pl (sv (n - 2)) = (sv (n - 2)).2 := by unfold cwd; rw [if_neg (by omega)]
  rw [e1] at c1
  rw [e2] at c2
  obtain ⟨u, hu⟩ : ∃ u, u = (sv (n - 2)).2 := ⟨_, rfl⟩
  obtain ⟨w, hw⟩ : ∃ w, w = (sv (n - 1)).2 := ⟨_, rfl⟩
  rw [← hu] at c2 ⊢
  rw [← hw] at c1 ⊢
  have en : i32 ((n - 1 : Nat) : Int) - 1 = i32 ((n - 2 : Nat) : Int) := by rw [show (1 : Int32) = i32 1 from rfl, i32_sub]; congr 1; omega
  have head : rn L xs (d + 3) 276 0 [.ref 117, .int (i32 ((4 + κ : Nat) : Int)), jv, jv] [] σ = cond (pv_c1 .ne w) (rn L xs (d + 3) 276 49 [.ref 117, .int (i32 ((4 + κ : Nat) : Int)), .int w, .int u] [] σ) (if κ = 11 ∨ κ = 12 then rn L xs (d + 3) 276 42 [.ref 117, .int (i32 ((4 + κ : Nat) : Int)), .int w, .int u] [] σ else rn L xs (d + 3) 276 49 [.ref 117, .int (i32 ((4 + κ : Nat) : Int)), .int w, .int u] [] σ) := by
    rw [e276_0 (d + 2), bI_ok t1, bI_ok c1, bI_ok t1, en, bI_ok c2, show (15 : Int32) = i32 15 from rfl, show (16 : Int32) = i32 16 from rfl, c2_eq (by omega) (by omega) (by omega) (by omega), c2_ne (by omega) (by omega) (by omega) (by omega)]
    congr 1
    by_cases q1 : κ = 11
    · rw [c_t (by omega), if_pos (.inl q1)]
    · rw [c_f (by omega)]
      by_cases q2 : κ = 12
      · rw [c_f (by omega), if_pos (.inr q2)]
      · rw [c_t (by omega), if_neg (by omega)]
  have good : ¬ ((κ = 11 ∨ κ = 12) ∧ w = 0) → ∃ σ', rn L xs (d + 3) 276 49 [.ref 117, .int (i32 ((4 + κ : Nat) : Int)), .int w, .int u] [] σ = some (.inl none, σ') ∧ CSt (n - 1) (uq sv (n - 2) (0, arR κ u w)) pl σ' ∧ frW [100, 101, 102] σ σ' := fun hz => by
    obtain ⟨σ1, p1, hS1, w1⟩ := drop_c (L := L) (xs := xs) (k := 2) hS hn (d + 1)
    have p1 : rn L xs (d + 2) 223 0 [.ref 100, .int 2] [] σ = some (.inl none, σ1) := p1
    have p2 := result_c (L := L) (xs := xs) (σ := σ1) hκ u w hz (d + 1)
    obtain ⟨σ2, p3, hS2, w2⟩ := spush_c (L := L) (xs := xs) (v := (0, arR κ u w)) hS1 (by omega) (by show 0 ≤ 2; omega) (d + 1)
    have e3 : cwd pl (0, arR κ u w) = arR κ u w := rfl
    rw [e3] at p3
    have p3 : rn L xs (d + 2) 222 0 [.ref 100, .int (arR κ u w), .int 0] [] σ1 = some (.inl none, σ2) := p3
    rw [show n - 2 + 1 = n - 1 by omega] at hS2
    exact ⟨σ2, by rw [e276_49 (d + 2), bV_ok p1, bI_ok p2, bV_ok p3], hS2, (w1.sub rfl).trans w2⟩
  rw [head]
  by_cases z : w = 0
  · have hz1 : pv_c1 .ne w = false := by rw [z]; rfl
    rw [hz1, cond_false]
    by_cases c : κ = 11 ∨ κ = 12
    · obtain ⟨σ1, g1, g2, g3⟩ := cend_c (L := L) (xs := xs) (c := 6) hP hM hp1 d
      have g1 : rn L xs (d + 2) 252 0 [.ref 117, .int 6] [] σ = some (.inl none, σ1) := g1
      refine .inl ⟨c, z, σ1, ?_, g2, g3⟩
      rw [if_pos c, e276_42 (d + 2), bV_ok g1]
    · rw [if_neg c]; exact .inr ⟨fun h => c h.1, good (fun h => c h.1)⟩
  · have : pv_c1 .ne w = true := by
      rw [c1_nex]
      exact decide_eq_true (fun h => z (by rw [← i32_of w, h]; rfl))
    rw [this, cond_true]
    exact .inr ⟨fun h => z h.2, good (fun h => z h.2)⟩
/-- a part of a pair is taken -/
theorem ctake_c {w : vaL} (hP : CPs D X n nr wd pgs s pl pg fl σ) (hH : GCH D rg cd X n nr wd) (hn : 1 ≤ n) (ho : X.sv (n - 1) = (2, i32 (o : Int))) (h1 : 1 ≤ o) (h2 : o ≤ X.no) (hw : (X.hp o).co[q]? = some w) (hq : q < 2) (hw2 : w.1 ≤ 2) (d : Nat) :
    ∃ σ', rn L xs (d + 3) 270 0 [.ref 117, .int (i32 ((q + 1 : Nat) : Int)), jv] [] σ = some (.inl none, σ') ∧ CSt n (uq X.sv (n - 1) w) pl σ' ∧ frW [101, 102] σ σ' := by
  obtain ⟨g1, g2, g3, g4⟩ := hP
  have hRo : RCO X n o := ⟨n - 1, by omega, 0, ho, h1, h2⟩
  obtain ⟨hWo, hgi, hszo, _⟩ := hH.2.2 o hRo
  obtain ⟨z1, z2, z3⟩ := word_c (L := L) (xs := xs) (q := q) (w := w) g1 g3 hWo hgi (g4.2.2.2 _ hgi).2 hRo hw (d + 1)
  have t1 := top_c (L := L) (xs := xs) g2 hn d
  have c1 := val_c (L := L) (xs := xs) (k := n - 1) g2 (by omega) (d + 1)
  have ec : cwd pl (X.sv (n - 1)) = i32 (pl o : Int) := by rw [ho]; unfold cwd; rw [if_pos rfl, oid_of (o := o) rfl (by have := hH.2.1; omega)]
  rw [ec] at c1
  have ea : i32 (pl o : Int) + i32 ((q + 1 : Nat) : Int) = i32 ((pl o + 1 + q : Nat) : Int) := by rw [i32_add]; congr 1; omega
  obtain ⟨σ', p1, p2, p3⟩ := sset_c (L := L) (xs := xs) (k := n - 1) (v := w) g2 (by omega) hw2 (d + 1)
  refine ⟨σ', ?_, p2, p3⟩
  rw [e270_0 (d + 2), bI_ok t1, bI_ok c1, bI_ok t1, ea, bI_ok z2, bI_ok z3, bV_ok p1]
/-- a word of an object comes on the stack -/
theorem load_c {w : vaL} {d : Nat} (hS : CSt n sv pl σ) (hn : n < 4000) (hw2 : w.1 ≤ 2) (p1 : rn L xs (d + 2) 245 0 [.ref 103, .int (i32 (q : Int))] [] σ = some (.inl (some (.int (cwd pl w))), σ)) (p2 : rn L xs (d + 2) 246 0 [.ref 103, .int (i32 (q : Int))] [] σ = some (.inl (some (.int (i32 (w.1 : Int)))), σ)) : ∃ σ', rn L xs (d + 3) 265 0 [.ref 117, .int (i32 (q : Int))] [] σ = some (.inl none, σ') ∧ CSt (n + 1) (uq sv n w) pl σ' ∧ frW [100, 101, 102] σ σ' := by
  obtain ⟨σ', a1, a2, a3⟩ := vpush_c (L := L) (xs := xs) (v := w) hS hn hw2 d
  exact ⟨σ', by rw [e265_0 (d + 2), bI_ok p1, bI_ok p2, bV_ok a1], a2, a3⟩
/-- nil -/
theorem ccase_nil {z : Int32} (hS : CSt n sv pl σ) (hn : 1 ≤ n) (h1 : (sv (n - 1)).1 = 1) (d : Nat) : ∃ σ', rn L xs (d + 3) 271 0 [.ref 117, .int z, jv, jv] [] σ = some (.inl none, σ') ∧ CSt (n - 1) sv pl σ' ∧ rd σ' 117 8 = z ∧ frW [100, 117] σ σ' ∧ ∀ q, q ≠ 8 → rd σ' 117 q = rd σ 117 q := by
  have t1 := top_c (L := L) (xs := xs) hS hn d
  have c1 := val_c (L := L) (xs := xs) (k := n - 1) hS (by omega) (d + 1)
  have c2 := sort_c (L := L) (xs := xs) (k := n - 1) hS (by omega) (d + 1)
  rw [h1] at c2
  have c2 : rn L xs (d + 2) 218 0 [.ref 100, .int (i32 ((n - 1 : Nat) : Int))] [] σ = some (.inl (some (.int 1)), σ) := c2
  obtain ⟨σ1, p1, hS1, w1⟩ := drop_c (L := L) (xs := xs) (k := 1) hS hn (d + 1)
  have p1 : rn L xs (d + 2) 223 0 [.ref 100, .int 1] [] σ = some (.inl none, σ1) := p1
  refine ⟨wr σ1 117 8 z, ?_, hS1.fr (fun j hj q => by rcases hj with e | e | e <;> rw [e] <;> exact wr_nek (by decide)), wr_self _ _ _ _, (w1.sub rfl).trans (frW_wr rfl), fun q hq => by rw [wr_nei hq, w1.1 117 rfl]⟩
  rw [e271_0 (d + 2), bI_ok t1, bI_ok c1, bI_ok t1, bI_ok c2, show pv_c2 .ne (1 : Int32) 1 = false from rfl, cond_false, e271_32 (d + 2), bV_ok p1]; rfl
/-- a cell -/
theorem ccase_cons {z : Int32} {u w : vaL} (hP : CPs D X n nr wd pgs s pl pg fl σ) (hM : CMc fn B no st ev nr σ) (hp1 : 1 ≤ pgs) (hH : GCH D rg cd X n nr wd) (hn : 1 ≤ n) (ho : X.sv (n - 1) = (2, i32 (o : Int))) (h1 : 1 ≤ o) (h2 : o ≤ X.no) (hco : (X.hp o).co = [u, w]) (hu2 : u.1 ≤ 2) (hw2 : w.1 ≤ 2) (d : Nat) :
    (n < 4000 ∧ ∃ σ', rn L xs (d + 6) 271 0 [.ref 117, .int z, jv, jv] [] σ = some (.inl none, σ') ∧ CSt (n + 1) (uq (uq X.sv (n - 1) u) n w) pl σ' ∧ frW [100, 101, 102] σ σ') ∨
    (n = 4000 ∧ ∃ σ', rn L xs (d + 6) 271 0 [.ref 117, .int z, jv, jv] [] σ = some (.inl none, σ') ∧ CVR st 4 s B no pgs wd ev σ' ∧ frW RCr σ σ') := by
  obtain ⟨g1, g2, g3, g4⟩ := hP
  have hn4 := g2.2.1
  have hRo : RCO X n o := ⟨n - 1, by omega, 0, ho, h1, h2⟩
  obtain ⟨hWo, hgi, hszo, _⟩ := hH.2.2 o hRo
  have hu' : (X.hp o).co[0]? = some u := by rw [hco]; rfl
  have hw' : (X.hp o).co[1]? = some w := by rw [hco]; rfl
  obtain ⟨y1, y2⟩ := (g3.1 o hRo).2.2.1 0 u hu'
  obtain ⟨y3, y4⟩ := (g3.1 o hRo).2.2.1 1 w hw'
  obtain ⟨z1, _, _⟩ := word_c (L := L) (xs := xs) (q := 1) (w := w) g1 g3 hWo hgi (g4.2.2.2 _ hgi).2 hRo hw' (d + 1)
  have t1 := top_c (L := L) (xs := xs) g2 hn (d + 3)
  have c1 := val_c (L := L) (xs := xs) (k := n - 1) g2 (by omega) (d + 4)
  have c2 := sort_c (L := L) (xs := xs) (k := n - 1) g2 (by omega) (d + 4)
  have ec : cwd pl (X.sv (n - 1)) = i32 (pl o : Int) := by rw [ho]; unfold cwd; rw [if_pos rfl, oid_of (o := o) rfl (by have := hH.2.1; omega)]
  rw [ec] at c1
  rw [ho] at c2
  have c2 : rn L xs (d + 5) 218 0 [.ref 100, .int (i32 ((n - 1 : Nat) : Int))] [] σ = some (.inl (some (.int 2)), σ) := c2
  obtain ⟨σ1, p1, hS1, w1⟩ := drop_c (L := L) (xs := xs) (k := 1) g2 hn (d + 4)
  have p1 : rn L xs (d + 5) 223 0 [.ref 100, .int 1] [] σ = some (.inl none, σ1) := p1
  have e1 : i32 (pl o : Int) + 1 = i32 ((pl o + 1 + 0 : Nat) : Int) := i32_up _
  have e2 : i32 (pl o : Int) + 2 = i32 ((pl o + 1 + 1 : Nat) : Int) := by rw [show (2 : Int32) = i32 2 from rfl, i32_add]; congr 1
  have rd45 : ∀ (σ2 : tvS) (q : Nat) (y : vaL) (d' : Nat), (∀ q, rd σ2 104 q = rd σ 104 q ∧ rd σ2 105 q = rd σ 105 q) → pl o + 1 + q < 51200 → rd σ 104 (pl o + 1 + q) = cwd pl y → rd σ 105 (pl o + 1 + q) = i32 (y.1 : Int) → rn L xs (d' + 1) 245 0 [.ref 103, .int (i32 ((pl o + 1 + q : Nat) : Int))] [] σ2 = some (.inl (some (.int (cwd pl y))), σ2) ∧ rn L xs (d' + 1) 246 0 [.ref 103, .int (i32 ((pl o + 1 + q : Nat) : Int))] [] σ2 = some (.inl (some (.int (i32 (y.1 : Int)))), σ2) := fun σ2 q y d' hm hlt h3 h4 => by
    constructor
    · rw [e245_0, c_in (by omega) (by omega) (by omega), i32_ixn (by omega), (hm _).1, h3]
    · rw [e246_0, c_in (by omega) (by omega) (by omega), i32_ixn (by omega), (hm _).2, h4]
  obtain ⟨r1, r2⟩ := rd45 σ1 0 u (d + 3) (fun q => ⟨w1.1 104 rfl q, w1.1 105 rfl q⟩) (by omega) y1 y2
  obtain ⟨σ2, p2, hS2, w2⟩ := load_c (L := L) (xs := xs) (d := d + 2) hS1 (by omega) hu2 r1 r2
  rw [show n - 1 + 1 = n by omega] at hS2
  have w12 : frW [100, 101, 102] σ σ2 := (w1.sub rfl).trans w2
  obtain ⟨r3, r4⟩ := rd45 σ2 1 w (d + 3) (fun q => ⟨w12.1 104 rfl q, w12.1 105 rfl q⟩) z1 y3 y4
  have head : rn L xs (d + 6) 271 0 [.ref 117, .int z, jv, jv] [] σ = bV (rn L xs (d + 5) 265 0 [.ref 117, .int (i32 ((pl o + 1 + 1 : Nat) : Int))] [] σ2) (fun s2 => some (.inl none, s2)) X0 := by
    rw [e271_0 (d + 5), bI_ok t1, bI_ok c1, bI_ok t1, bI_ok c2, show pv_c2 .ne (2 : Int32) 1 = true from rfl, cond_true, e271_31, e271_32 (d + 5), bV_ok p1, show pv_c1 .eq (0 : Int32) = true from rfl, cond_true, e271_51 (d + 5), e1, bV_ok p2, e2]
  by_cases c4 : n = 4000
  · have hP2 : CPo s pg fl [] nr wd pgs σ2 := g1.fr (fun q _ => w12.1 103 rfl q) (fun j hj q => by rcases hj with e | e | e | e | e | e | e <;> rw [e] <;> exact w12.1 _ rfl q)
    have hM2 : CMc fn B no st ev nr σ2 := hM.fr (fun q _ => w12.1 103 rfl q) (fun q _ => w12.1 117 rfl q) (fun j hj q => by rcases hj with e | e <;> rw [e] <;> exact w12.1 _ rfl q)
    obtain ⟨σ3, a1, a2, a3⟩ := vpush_full (L := L) (xs := xs) hS2 c4 (cwd pl w) (i32 (w.1 : Int)) (d + 1) (cend_c hP2 hM2 hp1 (d + 1))
    refine .inr ⟨c4, σ3, ?_, a2, (w12.sub rfl).trans (a3.sub rfl)⟩
    have p3 : rn L xs (d + 5) 265 0 [.ref 117, .int (i32 ((pl o + 1 + 1 : Nat) : Int))] [] σ2 = some (.inl none, σ3) := by rw [e265_0 (d + 4), bI_ok r3, bI_ok r4, bV_ok a1]
    rw [head, bV_ok p3]
  · obtain ⟨σ3, p3, hS3, w3⟩ := load_c (L := L) (xs := xs) (d := d + 2) hS2 (by omega) hw2 r3 r4
    exact .inl ⟨by omega, σ3, by rw [head, bV_ok p3], hS3, w12.trans w3⟩
end COPS
