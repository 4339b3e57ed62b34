/-! RUNS, COMPONENT: regions are made, and go -/
section CREG
variable {L : Nat} {xs : Nat → Int32} {σ σ' σ0 σ1 : tvS} {D : pgD} {rg : rgD} {cd : cdD} {X X' : dyD} {n n' nr wd pgs cs a i st ev B no f k : Nat} {pl : Nat → Nat} {fl : List Nat} {s : cSt} {pg : Nat → List Nat} {fn : Nat → Nat × Nat} {bk : Nat → Nat} {ff : Nat → Nat}
theorem hdF_le (j : Nat) : ∀ q, hdF rg ff j ≤ hdF rg ff (j + q) := by
  intro q
  induction q with
  | zero => exact Nat.le_refl _
  | succ q ih => show _ ≤ hdF rg ff (j + q) + rg.nK (ff (j + q)); omega
theorem hdF_lt {j : Nat} (h : j < i) : hdF rg ff j + rg.nK (ff j) ≤ hdF rg ff i := by
  have := hdF_le (rg := rg) (ff := ff) (j + 1) (i - (j + 1))
  rw [show j + 1 + (i - (j + 1)) = i by omega] at this
  exact this
theorem hdF_60 (h : ∀ j, j < i → rg.nK (ff j) ≤ 60) : ∀ j, j ≤ i → hdF rg ff j ≤ 60 * j := by
  intro j
  induction j with
  | zero => intro _; exact Nat.le_refl _
  | succ j ih =>
    intro hj
    have := ih (by omega)
    have := h j (by omega)
    show hdF rg ff j + rg.nK (ff j) ≤ _
    omega
/-- a region more -/
theorem rmk_c (hP : CPs D X n nr wd pgs s pl pg fl σ) (hF : CMf rg X bk i σ) (hC : CMc fn X.B no st ev nr σ) (hf : X.ff i = f) (hk : 1 ≤ k ∧ k ≤ rg.nK f) (hnK : ∀ j, j ≤ i → rg.nK (X.ff j) ≤ 60) (hnr : nr < 2000) (hgi : ∀ o, RCO X n o → (X.hp o).gi < nr) (d : Nat) :
    ∃ σ', rn L xs (d + 3) 259 0 [.ref 117, .int (i32 (k : Int))] [] σ = some (.inl none, σ') ∧ CPs D (mkX X i k nr) n (nr + 1) wd pgs (uq s.R nr (0, 0, 0), s.2) pl (uq pg nr []) fl σ' ∧ CMf rg (mkX X i k nr) bk i σ' ∧ CMc (uq fn nr (f, k)) (X.B + 1) no st ev (nr + 1) σ' ∧ frW [103, 108, 109, 110, 111, 112, 113, 114, 118] σ σ' ∧ ∀ q, q ≠ 19 → q ≠ 20 → rd σ' 103 q = rd σ 103 q := by
  obtain ⟨⟨⟨a1, a2, a3, a4, a5, a6, a7, a8⟩, b, c, ⟨d1, d2, d3, d4⟩, e, f1, f2, f3, f4⟩, hS, hH, hok⟩ := id hP
  obtain ⟨⟨m1, m2, m3, m4, m5⟩, m6, m7⟩ := id hF
  obtain ⟨c1, c2, c3, c4, c5, c6, c7⟩ := id hC
  rw [hf] at m2
  have hnKi := hnK i (Nat.le_refl _)
  rw [hf] at hnKi
  have hhd := hdF_60 (rg := rg) (ff := X.ff) (i := i) (fun j hj => hnK j (by omega)) i (Nat.le_refl _)
  have e20 : rd σ 103 20 + 1 = i32 (X.B : Int) := by rw [c2, i32_up, show X.B - 1 + 1 = X.B by omega]
  obtain ⟨σ1, h1⟩ : ∃ σ1, σ1 = wr (wr (wr (wr σ 103 19 (i32 ((nr + 1 : Nat) : Int))) 103 20 (i32 (X.B : Int))) 108 nr (i32 (f : Int))) 109 nr (i32 (k : Int)) := ⟨_, rfl⟩
  obtain ⟨σ2, h2⟩ : ∃ σ2, σ2 = wr (wr (wr (wr (wr σ1 110 nr (i32 (-1))) 111 nr (i32 (-1))) 112 nr 0) 113 nr 0) 114 nr 0 := ⟨_, rfl⟩
  have p1 : rn L xs (d + 1) 232 0 [.ref 103, .int (i32 (nr : Int))] [] σ1 = some (.inl none, σ2) := by
    rw [e232_0, c_in (by omega) (by omega) (by omega), c_in (by omega) (by omega) (by omega), c_in (by omega) (by omega) (by omega), c_in (by omega) (by omega) (by omega), c_in (by omega) (by omega) (by omega), i32_ixn (by omega), i32_raw, ← h2]
  have p2 : rn L xs (d + 2) 242 0 [.ref 103, .int (i32 (f : Int)), .int (i32 (k : Int)), jv] [] σ = some (.inl (some (.int (i32 (nr : Int)))), σ2) := by
    rw [e242_0 (d + 1), a6, c_in (by omega) (by omega) (by omega), c_in (by omega) (by omega) (by omega), i32_up, i32_ixn (by omega), e20, ← h1, bV_ok p1]
  have ek : (i32 (hdF rg X.ff i : Int) + i32 (k : Int)) - 1 = i32 ((hdF rg X.ff i + k - 1 : Nat) : Int) := by rw [show (1 : Int32) = i32 1 from rfl, i32_add, i32_sub]; congr 1; omega
  obtain ⟨σ3, h3⟩ : ∃ σ3, σ3 = wr σ2 118 (hdF rg X.ff i + k - 1) (i32 (nr : Int)) := ⟨_, rfl⟩
  have w1 : frW [103, 108, 109] σ σ1 := by rw [h1]; exact (((frW_wr rfl).trans (frW_wr rfl)).trans (frW_wr rfl)).trans (frW_wr rfl)
  have w2 : frW [110, 111, 112, 113, 114] σ1 σ2 := by rw [h2]; exact ((((frW_wr rfl).trans (frW_wr rfl)).trans (frW_wr rfl)).trans (frW_wr rfl)).trans (frW_wr rfl)
  have w3 : frW [118] σ2 σ3 := by rw [h3]; exact frW_wr rfl
  have w : frW [103, 108, 109, 110, 111, 112, 113, 114, 118] σ σ3 := ((w1.sub rfl).trans (w2.sub rfl)).trans (w3.sub rfl)
  have q103 : ∀ q, q ≠ 19 → q ≠ 20 → rd σ3 103 q = rd σ 103 q := fun q q1 q2 => by rw [w3.1 103 rfl, w2.1 103 rfl, h1, wr_nek (by decide), wr_nek (by decide), wr_nei q2, wr_nei q1]
  have qr : ∀ j, j = 110 ∨ j = 111 ∨ j = 112 ∨ j = 113 ∨ j = 114 → ∀ r, r ≠ nr → rd σ3 j r = rd σ j r := fun j hj r hr => by
    have e2 : rd σ2 j r = rd σ1 j r := by
      rw [h2]
      rcases hj with e | e | e | e | e <;> rw [e]
      · rw [wr_nek (by decide), wr_nek (by decide), wr_nek (by decide), wr_nek (by decide), wr_nei hr]
      · rw [wr_nek (by decide), wr_nek (by decide), wr_nek (by decide), wr_nei hr, wr_nek (by decide)]
      · rw [wr_nek (by decide), wr_nek (by decide), wr_nei hr, wr_nek (by decide), wr_nek (by decide)]
      · rw [wr_nek (by decide), wr_nei hr, wr_nek (by decide), wr_nek (by decide), wr_nek (by decide)]
      · rw [wr_nei hr, wr_nek (by decide), wr_nek (by decide), wr_nek (by decide), wr_nek (by decide)]
    rcases hj with e | e | e | e | e <;> rw [e] at e2 ⊢
    · rw [w3.1 110 rfl, e2, w1.1 110 rfl]
    · rw [w3.1 111 rfl, e2, w1.1 111 rfl]
    · rw [w3.1 112 rfl, e2, w1.1 112 rfl]
    · rw [w3.1 113 rfl, e2, w1.1 113 rfl]
    · rw [w3.1 114 rfl, e2, w1.1 114 rfl]
  have lk : ∀ l x, lkF (rd σ 106) l x → lkF (rd σ3 106) l x := fun l x hl => lkF.congr _ _ hl (fun q _ => w.1 106 rfl q)
  refine ⟨σ3, ?_, ⟨⟨⟨by rw [q103 4 (by decide) (by decide)]; exact a1, by rw [q103 5 (by decide) (by decide)]; exact a2, by rw [q103 8 (by decide) (by decide)]; exact a3, by rw [q103 9 (by decide) (by decide)]; exact a4, by rw [q103 10 (by decide) (by decide)]; exact a5, ?_, by rw [q103 22 (by decide) (by decide)]; exact a7, by rw [q103 23 (by decide) (by decide)]; exact a8⟩, lk _ _ b, fun r hr => ?_, ⟨fun r hr => ?_, d2, d3, d4⟩, e, by omega, f2, f3, f4⟩, ?_, ?_, ?_⟩, ⟨⟨by rw [w.1 117 rfl]; exact m1, by rw [w.1 117 rfl, m2, ← hf]; rfl, by rw [w.1 117 rfl]; exact m3, by rw [w.1 117 rfl]; exact m4, m5⟩, fun j hj => by rw [w.1 119 rfl, w.1 120 rfl, w.1 121 rfl, w.1 122 rfl]; exact m6 j hj, fun j k' hj k1 k2 hv => ?_⟩, ⟨fun r hr => ?_, ?_, by omega, by rw [q103 21 (by decide) (by decide)]; exact c4, by rw [w.1 117 rfl]; exact c5, by rw [w.1 117 rfl]; exact c6, by rw [w.1 117 rfl]; exact c7⟩, w, q103⟩
  · rw [e259_0 (d + 2), m2, bI_ok p2, m3, ek, c_in (by omega) (by omega) (by omega), i32_ixn (by omega), ← h3]
  · rw [w3.1 103 rfl, w2.1 103 rfl, h1, wr_nek (by decide), wr_nek (by decide), wr_nei (by decide), wr_self]
  · by_cases er : r = nr
    · subst er
      have e1 : cSt.R (uq s.R r (0, 0, 0), s.2) r = (0, 0, 0) := uq_self
      rw [e1, uq_self]
      refine ⟨⟨?_, ?_, rfl, fun p hp => (List.not_mem_nil hp).elim⟩, ?_, ?_, ?_, rfl⟩
      · rw [w3.1 110 rfl, h2, wr_nek (by decide), wr_nek (by decide), wr_nek (by decide), wr_nek (by decide), wr_self]; rfl
      · rw [w3.1 111 rfl, h2, wr_nek (by decide), wr_nek (by decide), wr_nek (by decide), wr_self]; rfl
      · rw [w3.1 112 rfl, h2, wr_nek (by decide), wr_nek (by decide), wr_self]; rfl
      · rw [w3.1 113 rfl, h2, wr_nek (by decide), wr_self]; rfl
      · rw [w3.1 114 rfl, h2, wr_self]; rfl
    · have e1 : cSt.R (uq s.R nr (0, 0, 0), s.2) r = s.R r := uq_ne er
      rw [e1, uq_ne er]
      obtain ⟨⟨k1, k2, k3, k4⟩, k5, k6, k7, k8⟩ := c r (by omega)
      exact ⟨⟨by rw [qr 110 (by omega) r er]; exact k1, by rw [qr 111 (by omega) r er]; exact k2, lk _ _ k3, fun y hy => by rw [w.1 107 rfl]; exact k4 y hy⟩, by rw [qr 112 (by omega) r er]; exact k5, by rw [qr 113 (by omega) r er]; exact k6, by rw [qr 114 (by omega) r er]; exact k7, k8⟩
  · by_cases er : r = nr
    · subst er; rw [uq_self]; exact ⟨List.nodup_nil, fun p hp => (List.not_mem_nil hp).elim⟩
    · rw [uq_ne er]
      obtain ⟨g1, g2⟩ := d1 r (by omega)
      refine ⟨g1, fun p hp => ?_⟩
      obtain ⟨y1, y2, y3, y4⟩ := g2 p hp
      refine ⟨y1, y2, y3, fun r' hr' hp' => ?_⟩
      by_cases er' : r' = nr
      · subst er'; rw [uq_self] at hp'; exact (List.not_mem_nil hp').elim
      · rw [uq_ne er'] at hp'; exact y4 r' (by omega) hp'
  · exact hS.fr (fun j hj q => by rcases hj with e | e | e <;> rw [e] <;> exact w.1 _ rfl q)
  · refine ⟨fun o ho => ?_, hH.2⟩
    obtain ⟨⟨p, p1, p2, p3⟩, g2⟩ := hH.1 o ho
    have eg : (X.hp o).gi ≠ nr := by have := hgi o ho; omega
    refine ⟨⟨p, ?_, p2, ?_⟩, g2.cong (fun j _ => ⟨w.1 104 rfl _, w.1 105 rfl _⟩) (fun _ _ _ => rfl)⟩
    · show p ∈ uq pg nr [] (X.hp o).gi
      rw [uq_ne eg]; exact p1
    · show pl o + szO (X.hp o) ≤ p * wd + (if (uq pg nr [] (X.hp o).gi).getLast? = some p then (uq s.R nr (0, 0, 0) (X.hp o).gi).2.2 else wd)
      rw [uq_ne eg, uq_ne eg]; exact p3
  · exact (hok.mk (l := [0]))
  · show rd σ3 118 (hdF rg X.ff j + k' - 1) = i32 ((if j = i ∧ k' = k then nr else X.aR j k' : Nat) : Int)
    have hv : (if j = i ∧ k' = k then nr else X.aR j k') < 2000 := hv
    have k2 : k' ≤ rg.nK (X.ff j) := k2
    by_cases ek' : j = i ∧ k' = k
    · rw [if_pos ek', ek'.1, ek'.2, h3, wr_self]
    · rw [if_neg ek'] at hv ⊢
      have hne : hdF rg X.ff j + k' - 1 ≠ hdF rg X.ff i + k - 1 := by
        by_cases ej : j = i
        · subst ej
          have : k' ≠ k := fun h => ek' ⟨rfl, h⟩
          omega
        · have := hdF_lt (rg := rg) (ff := X.ff) (show j < i by omega)
          omega
      rw [h3, wr_nei hne, w2.1 118 rfl, w1.1 118 rfl]; exact m7 j k' hj k1 k2 hv
  · by_cases er : r = nr
    · subst er
      rw [uq_self, w3.1 108 rfl, w2.1 108 rfl, w3.1 109 rfl, w2.1 109 rfl, h1, wr_nek (by decide), wr_self, wr_self]; exact ⟨rfl, rfl⟩
    · rw [uq_ne er, w3.1 108 rfl, w2.1 108 rfl, w3.1 109 rfl, w2.1 109 rfl, h1, wr_nek (by decide), wr_nei er, wr_nek (by decide), wr_nek (by decide), wr_nei er, wr_nek (by decide), wr_nek (by decide), wr_nek (by decide)]
      exact c1 r (by omega)
  · rw [w3.1 103 rfl, w2.1 103 rfl, h1, wr_nek (by decide), wr_nek (by decide), wr_self, Nat.add_sub_cancel]
theorem lvS_all (hU : pgU s nr = s.U) : lvS s nr = s := by
  show (s.1, s.2.1, s.2.2.1, pgU s nr, s.2.2.2.2) = s
  rw [hU]; rfl
/-- regions go -/
theorem leave_c {tot : Nat} (ht : tot < 4000) (d : Nat) : ∀ (j k nr : Nat) (s : cSt) (fl : List Nat) (σ : tvS), k + j = tot → j ≤ nr → pgU s nr = s.U → CPo s pg fl [] nr wd pgs σ →
    ∃ (σ' : tvS) (fl' : List Nat), rn L xs (d + 2) 244 2 [.ref 103, .int (i32 (tot : Int)), .int (i32 (k : Int))] [] σ = some (.inl none, σ') ∧ CPo (lvS s (nr - j)) pg fl' [] (nr - j) wd pgs σ' ∧ frW [103, 106] σ σ' ∧ ∀ q, q ≠ 8 → q ≠ 9 → q ≠ 19 → rd σ' 103 q = rd σ 103 q := by
  intro j
  induction j with
  | zero =>
    intro k nr s fl σ hk _ hU h
    refine ⟨σ, fl, ?_, by rw [Nat.sub_zero, lvS_all hU]; exact h, frW.refl, fun _ _ _ _ => rfl⟩
    rw [e244_2, c2_ge (by omega) (by omega) (by omega) (by omega), c_t (by omega), e244_36]
  | succ j ih =>
    intro k nr s fl σ hk hj hU h
    obtain ⟨⟨a1, a2, a3, a4, a5, a6, a7, a8⟩, b, c, ⟨d1, d2, d3, d4⟩, e, f1, f2, f3, f4⟩ := h
    obtain ⟨r, hr⟩ : ∃ r, nr = r + 1 := ⟨nr - 1, by omega⟩
    subst hr
    obtain ⟨⟨k1, k2, k3, k4⟩, k5, k6, k7, k8⟩ := c r (by omega)
    obtain ⟨n1, n2⟩ := d1 r (by omega)
    have es : pgU s (r + 1) = pgU s r + (pg r).length := by
      show sumF _ 0 r + (s.R (0 + r)).2.1 = _
      rw [Nat.zero_add, k8]; rfl
    have em1 : i32 ((r + 1 : Nat) : Int) - 1 = i32 (r : Int) := by rw [show (1 : Int32) = i32 1 from rfl, i32_sub]; congr 1; omega
    obtain ⟨σ1, h1⟩ : ∃ σ1, σ1 = wr σ 103 19 (i32 (r : Int)) := ⟨_, rfl⟩
    have w1 : frW [103] σ σ1 := by rw [h1]; exact frW_wr rfl
    have q1 : ∀ q, q ≠ 19 → rd σ1 103 q = rd σ 103 q := fun q hq => by rw [h1, wr_nei hq]
    obtain ⟨σ2, fl2, g1, g2, g3, g4, g5, g6⟩ := give_loop (L := L) (xs := xs) d (pg r) fl (hdP (pg r)) s.U σ1 (.int (hdP (pg r))) jv (lkF.congr _ _ k3 (fun q _ => w1.1 106 rfl q)) n1 (fun p hp => ⟨by have := (n2 p hp).1; omega, (n2 p hp).2.1⟩) ⟨by rw [q1 8 (by decide)]; exact a3, lkF.congr _ _ b (fun q _ => w1.1 106 rfl q), by rw [q1 9 (by decide)]; exact a4⟩ (by omega) (by omega)
    have p1 : rn L xs (d + 1) 240 0 [.ref 103, .int (hdP (pg r)), jv, jv] [] σ1 = some (.inl none, σ2) := by rw [e240_0]; exact g1
    have w12 : frW [103, 106] σ σ2 := (w1.sub rfl).trans g4
    have q2 : ∀ q, q ≠ 8 → q ≠ 9 → q ≠ 19 → rd σ2 103 q = rd σ 103 q := fun q z1 z2 z3 => by rw [g6 q z1 z2, q1 q z3]
    have hC2 : CPo (lvS s r) pg fl2 [] r wd pgs σ2 := by
      refine ⟨⟨by rw [q2 4 (by decide) (by decide) (by decide)]; exact a1, by rw [q2 5 (by decide) (by decide) (by decide)]; exact a2, g3.1, ?_, by rw [q2 10 (by decide) (by decide) (by decide)]; exact a5, by rw [g6 19 (by decide) (by decide), h1, wr_self], by rw [q2 22 (by decide) (by decide) (by decide)]; exact a7, by rw [q2 23 (by decide) (by decide) (by decide)]; exact a8⟩, g3.2.1, fun q hq => ?_, ⟨fun q hq => ⟨(d1 q (by omega)).1, fun p hp => ?_⟩, ?_, fun p hp => ?_, fun p hp => (List.not_mem_nil hp).elim⟩, ?_, by omega, f2, f3, f4⟩
      · rw [g3.2.2]
        show i32 ((s.U - (pg r).length : Nat) : Int) = i32 (pgU s r : Int)
        rw [show s.U - (pg r).length = pgU s r by omega]
      · obtain ⟨⟨k1', k2', k3', k4'⟩, k5', k6', k7', k8'⟩ := c q (by omega)
        refine ⟨⟨by rw [w12.1 110 rfl]; exact k1', by rw [w12.1 111 rfl]; exact k2', lkF.congr _ _ k3' (fun y hy => by
          rw [g5 y (fun hm => by have := (n2 y hm).2.2.2 q (by omega) hy; omega), w1.1 106 rfl]), fun y hy => by rw [w12.1 107 rfl]; exact k4' y hy⟩, by rw [w12.1 112 rfl]; exact k5', by rw [w12.1 113 rfl]; exact k6', by rw [w12.1 114 rfl]; exact k7', k8'⟩
      · obtain ⟨y1, y2, y3, y4⟩ := (d1 q (by omega)).2 p hp
        refine ⟨y1, fun hm => ?_, y3, fun r' hr' => y4 r' (by omega)⟩
        rw [g2] at hm
        rcases List.mem_append.mp hm with z | z
        · have := y4 r (by omega) (List.mem_reverse.mp z); omega
        · exact y2 z
      · rw [g2, List.nodup_append]
        exact ⟨List.pairwise_reverse.mpr (n1.imp fun h => h.symm), d2, fun x hx y hy e' => (n2 x (List.mem_reverse.mp hx)).2.1 (by rw [e']; exact hy)⟩
      · rw [g2] at hp
        rcases List.mem_append.mp hp with z | z
        · exact ⟨(n2 p (List.mem_reverse.mp z)).1, List.not_mem_nil⟩
        · exact d3 p z
      · rw [g2, List.length_append, List.length_reverse]
        show _ + pgU s r = pgs
        omega
    obtain ⟨σ', fl', i1, i2, i3, i4⟩ := ih (k + 1) r (lvS s r) fl2 σ2 (by omega) (by omega) rfl hC2
    refine ⟨σ', fl', ?_, ?_, w12.trans i3, fun q z1 z2 z3 => by rw [i4 q z1 z2 z3, q2 q z1 z2 z3]⟩
    · rw [e244_2 (d + 1), c2_ge (by omega) (by omega) (by omega) (by omega), c_f (by omega), a6, em1, c_in (by omega) (by omega) (by omega), i32_ixn (by omega), k1, ← h1, bV_ok p1, i32_up]
      exact i1
    · rw [show r + 1 - (j + 1) = r - j by omega]; exact i2
end CREG
