/-! RUNS, COMPONENT: calls, applications, the way back -/
section CCALLS
variable {L : Nat} {xs : Nat → Int32} {σ σ' σ0 σ1 σ2 : tvS} {D : pgD} {rg : rgD} {cd : cdD} {vd : Nat → Nat} {X X' : dyD} {n n' nr wd pgs cs a b i st ev B no f g k r sz to N p j0 o q κ m : Nat} {pl : Nat → Nat} {fl : List Nat} {s s' : cSt} {pg : Nat → List Nat} {fn : Nat → Nat × Nat} {bk : Nat → Nat} {x : obD} {v : vaL} {sv : Nat → vaL} {ff ff' : Nat → Nat}
theorem hdF_congr : ∀ j, (∀ q, q < j → ff' q = ff q) → hdF rg ff' j = hdF rg ff j := by
  intro j
  induction j with
  | zero => intro _; rfl
  | succ j ih => intro h; show hdF rg ff' j + rg.nK (ff' j) = hdF rg ff j + rg.nK (ff j); rw [ih (fun q hq => h q (by omega)), h j (by omega)]
/-- a call more is told -/
theorem enter_c (hRS : RSc D rg cd cs σ) (hF : CMf rg X bk i σ) (hi : i < 300) (hff : X.ff i ≤ 20) (hfc : X.ff i ≤ D.fc) (ha : rd σ 117 8 = i32 (a : Int)) (d : Nat) :
    ∃ σ', rn L xs (d + 2) 273 0 [.ref 117] [] σ = some (.inl (some (.int (i32 (hdF rg X.ff (i + 1) : Int)))), σ') ∧ rd σ' 117 17 = i32 ((i + 1 : Nat) : Int) ∧ (∀ q, q ≠ 17 → rd σ' 117 q = rd σ 117 q) ∧ (∀ j, j < i + 1 → rd σ' 119 j = i32 ((uq bk i a j : Nat) : Int) ∧ rd σ' 120 j = i32 (X.bs j : Int) ∧ rd σ' 121 j = i32 (X.ff j : Int) ∧ rd σ' 122 j = i32 (hdF rg X.ff j : Int)) ∧ frW [117, 119, 120, 121, 122] σ σ' := by
  obtain ⟨⟨m1, m2, m3, m4, m5⟩, m6, m7⟩ := hF
  obtain ⟨σ1, e1⟩ : ∃ σ1, σ1 = wr (wr (wr (wr (wr σ 119 i (i32 (a : Int))) 120 i (i32 (X.bs i : Int))) 121 i (i32 (X.ff i : Int))) 122 i (i32 (hdF rg X.ff i : Int))) 117 17 (i32 ((i + 1 : Nat) : Int)) := ⟨_, rfl⟩
  have w1 : frW [117, 119, 120, 121, 122] σ σ1 := by rw [e1]; exact ((((frW_wr rfl).trans (frW_wr rfl)).trans (frW_wr rfl)).trans (frW_wr rfl)).trans (frW_wr rfl)
  have p1 : rn L xs (d + 1) 179 0 [.ref 74, .int (i32 (X.ff i : Int))] [] σ1 = some (.inl (some (.int (i32 (rg.nK (X.ff i) : Int)))), σ1) := by
    rw [e179_0, c_in (by omega) (by omega) (by omega), i32_ixn (by omega), w1.1 80 rfl, (hRS.2.1 _ hfc).2.1]
  have eh : i32 (hdF rg X.ff i : Int) + i32 (rg.nK (X.ff i) : Int) = i32 (hdF rg X.ff (i + 1) : Int) := by rw [i32_add]; rfl
  refine ⟨σ1, ?_, by rw [e1, wr_self], fun q hq => by rw [e1, wr_nei hq, wr_nek (by decide), wr_nek (by decide), wr_nek (by decide), wr_nek (by decide)], fun j hj => ?_, w1⟩
  · rw [e273_0 (d + 1), m4, c_in (by omega) (by omega) (by omega), c_in (by omega) (by omega) (by omega), c_in (by omega) (by omega) (by omega), c_in (by omega) (by omega) (by omega), i32_ixn (by omega), ha, m1, m2, m3, i32_up, ← e1, bI_ok p1, eh]
  · by_cases e : j = i
    · subst e
      rw [uq_self, e1, wr_nek (by decide), wr_nek (by decide), wr_nek (by decide), wr_nek (by decide), wr_self, wr_nek (by decide), wr_nek (by decide), wr_nek (by decide), wr_self, wr_nek (by decide), wr_nek (by decide), wr_self, wr_nek (by decide), wr_self]
      exact ⟨rfl, rfl, rfl, rfl⟩
    · rw [uq_ne e, e1, wr_nek (by decide), wr_nek (by decide), wr_nek (by decide), wr_nek (by decide), wr_nei e, wr_nek (by decide), wr_nek (by decide), wr_nek (by decide), wr_nei e, wr_nek (by decide), wr_nek (by decide), wr_nek (by decide), wr_nei e, wr_nek (by decide), wr_nek (by decide), wr_nek (by decide), wr_nei e, wr_nek (by decide), wr_nek (by decide), wr_nek (by decide)]
      exact m6 j (by omega)
/-- regions are handed on -/
theorem chand_loop {c : Nat} (hRS : RSc D rg cd cs σ0) (hF : CMf rg X bk i σ0) (hf : X.ff i = f) (hnK : ∀ j, j ≤ i → rg.nK (X.ff j) ≤ 60) (hi : i < 300) (hgl : (rg.gl g).length ≤ 60) (hnd : (rg.gl g).Nodup) (hm : ∀ j, j < (rg.gl g).length → 1 ≤ (rg.gl g).getD j 0 ∧ (rg.gl g).getD j 0 ≤ 60) (hh : ∀ j, j < (rg.gl g).length → 1 ≤ handN D rg f p j ∧ handN D rg f p j ≤ rg.nK f ∧ X.aR i (handN D rg f p j) < 2000) (hcs : c + 2 * (rg.gl g).length ≤ cs) (hcode : ∀ j, j < (rg.gl g).length → rd σ0 95 (c + 2 * j) = i32 (handN D rg f p j : Int) ∧ rd σ0 95 (c + 2 * j + 1) = i32 ((rg.gl g).getD j 0 : Nat)) (x1 : Int32) (d : Nat) :
    ∀ (j t : Nat) (σ : tvS) (v5 v6 : Value), t + j = (rg.gl g).length → frW [117, 118] σ0 σ → rd σ 117 8 = i32 ((c + 2 * t : Nat) : Int) → (∀ q, q ≠ 8 → rd σ 117 q = rd σ0 117 q) → (∀ q, q < hdF rg X.ff (i + 1) → rd σ 118 q = rd σ0 118 q) → (∀ q, q < t → rd σ 118 (hdF rg X.ff (i + 1) + (rg.gl g).getD q 0 - 1) = i32 (X.aR i (handN D rg f p q) : Int)) →
      ∃ σ' v4' v5' v6', rn L xs (d + 3) 272 41 [.ref 117, .int x1, .int (i32 ((rg.gl g).length : Int)), .int (i32 (hdF rg X.ff (i + 1) : Int)), .int (i32 (t : Int)), v5, v6] [] σ = rn L xs (d + 3) 272 90 [.ref 117, .int x1, .int (i32 ((rg.gl g).length : Int)), .int (i32 (hdF rg X.ff (i + 1) : Int)), v4', v5', v6'] [] σ' ∧ frW [117, 118] σ0 σ' ∧ rd σ' 117 8 = i32 ((c + 2 * (rg.gl g).length : Nat) : Int) ∧ (∀ q, q ≠ 8 → rd σ' 117 q = rd σ0 117 q) ∧ (∀ q, q < hdF rg X.ff (i + 1) → rd σ' 118 q = rd σ0 118 q) ∧ ∀ q, q < (rg.gl g).length → rd σ' 118 (hdF rg X.ff (i + 1) + (rg.gl g).getD q 0 - 1) = i32 (X.aR i (handN D rg f p q) : Int) := by
  obtain ⟨⟨m1, m2, m3, m4, m5⟩, m6, m7⟩ := hF
  have hnKi := hnK i (Nat.le_refl _)
  have hhd := hdF_60 (rg := rg) (ff := X.ff) (i := i) (fun j hj => hnK j (by omega)) i (Nat.le_refl _)
  have hhd1 : hdF rg X.ff (i + 1) = hdF rg X.ff i + rg.nK f := by rw [← hf]; rfl
  rw [hf] at hnKi
  intro j
  induction j with
  | zero =>
    intro t σ v5 v6 ht w h8 h117 ho hn
    have e : t = (rg.gl g).length := by omega
    subst e
    refine ⟨σ, .int (i32 ((rg.gl g).length : Int)), v5, v6, ?_, w, h8, h117, ho, hn⟩
    rw [e272_41, c2_ge (by omega) (by omega) (by omega) (by omega), c_t (by omega)]
  | succ j ih =>
    intro t σ v5 v6 ht w h8 h117 ho hn
    obtain ⟨k1, k2⟩ := hcode t (by omega)
    obtain ⟨y1, y2, y3⟩ := hh t (by omega)
    obtain ⟨z1, z2⟩ := hm t (by omega)
    have hRS' : RSc D rg cd cs σ := hRS.fr w rfl
    have p1 := next_c (L := L) (xs := xs) hRS' h8 (by omega) d
    obtain ⟨σ1, e1⟩ : ∃ σ1, σ1 = wr σ 117 8 (i32 ((c + 2 * t + 1 : Nat) : Int)) := ⟨_, rfl⟩
    rw [← e1, w.1 95 rfl, k1] at p1
    have w1 : frW [117] σ σ1 := by rw [e1]; exact frW_wr rfl
    have p2 := next_c (L := L) (xs := xs) (hRS'.fr w1 rfl) (a := c + 2 * t + 1) (by rw [e1, wr_self]) (by omega) d
    obtain ⟨σ2, e2⟩ : ∃ σ2, σ2 = wr σ1 117 8 (i32 ((c + 2 * t + 1 + 1 : Nat) : Int)) := ⟨_, rfl⟩
    rw [← e2, w1.1 95 rfl, w.1 95 rfl, k2] at p2
    have w2 : frW [117] σ σ2 := w1.trans (by rw [e2]; exact frW_wr rfl)
    have q2 : ∀ q, q ≠ 8 → rd σ2 117 q = rd σ0 117 q := fun q hq => by rw [e2, wr_nei hq, e1, wr_nei hq]; exact h117 q hq
    have eh1 : (i32 (hdF rg X.ff i : Int) + i32 (handN D rg f p t : Int)) - 1 = i32 ((hdF rg X.ff i + handN D rg f p t - 1 : Nat) : Int) := by rw [show (1 : Int32) = i32 1 from rfl, i32_add, i32_sub]; congr 1; omega
    have eh2 : (i32 (hdF rg X.ff (i + 1) : Int) + i32 ((rg.gl g).getD t 0 : Nat)) - 1 = i32 ((hdF rg X.ff (i + 1) + (rg.gl g).getD t 0 - 1 : Nat) : Int) := by rw [show (1 : Int32) = i32 1 from rfl, i32_add, i32_sub]; congr 1; omega
    have e118 : rd σ2 118 (hdF rg X.ff i + handN D rg f p t - 1) = i32 (X.aR i (handN D rg f p t) : Int) := by
      rw [w2.1 118 rfl, ho _ (by omega)]
      exact m7 i _ (Nat.le_refl _) y1 (by rw [hf]; exact y2) y3
    obtain ⟨σ3, e3⟩ : ∃ σ3, σ3 = wr σ2 118 (hdF rg X.ff (i + 1) + (rg.gl g).getD t 0 - 1) (i32 (X.aR i (handN D rg f p t) : Int)) := ⟨_, rfl⟩
    have w3 : frW [118] σ2 σ3 := by rw [e3]; exact frW_wr rfl
    obtain ⟨σ', v4', v5', v6', b1, b2, b3, b4, b5, b6⟩ := ih (t + 1) σ3 (.int (i32 (handN D rg f p t : Int))) (.int (i32 ((rg.gl g).getD t 0 : Nat))) (by omega) ((w.trans (w2.sub rfl)).trans (w3.sub rfl)) (by rw [w3.1 117 rfl, e2, wr_self]; rfl) (fun q hq => by rw [w3.1 117 rfl]; exact q2 q hq) (fun q hq => by rw [e3, wr_nei (by omega), w2.1 118 rfl]; exact ho q hq) (fun q hq => by
      by_cases e : q = t
      · subst e; rw [e3, wr_self]
      · have hne : (rg.gl g).getD q 0 ≠ (rg.gl g).getD t 0 := fun h => e (by
          have h1 := idx_at hnd (show q < (rg.gl g).length by omega)
          have h2 := idx_at hnd (show t < (rg.gl g).length by omega)
          rw [h] at h1; omega)
        have := (hm q (by omega)).1
        rw [e3, wr_nei (by omega), w2.1 118 rfl]; exact hn q (by omega))
    refine ⟨σ', v4', v5', v6', ?_, b2, b3, b4, b5, b6⟩
    rw [e272_41 (d + 2), c2_ge (by omega) (by omega) (by omega) (by omega), c_f (by omega), bI_ok p1, bI_ok p2, q2 11 (by decide), m3, eh1, c_in (by omega) (by omega) (by omega), eh2, c_in (by omega) (by omega) (by omega), i32_ixn (by omega), i32_ixn (by omega), e118, ← e3, i32_up]
    exact b1
/-- a call -/
theorem ccall_c {E : Nat} (hRS : RSc D rg cd cs σ) (hP : CPs D X n nr wd pgs s pl pg fl σ) (hF : CMf rg X bk i σ) (hM : CMc fn X.B X.no st ev nr σ) (hp1 : 1 ≤ pgs) (hf : X.ff i = f) (hfc : f ≤ D.fc) (hf20 : D.fc ≤ 20) (hg : g ≤ D.fc) (hgp : D.vl p = g) (hnK : ∀ j, j ≤ i → rg.nK (X.ff j) ≤ 60) (hgl : (rg.gl g).length ≤ 60) (hnd : (rg.gl g).Nodup) (hm : ∀ j, j < (rg.gl g).length → 1 ≤ (rg.gl g).getD j 0 ∧ (rg.gl g).getD j 0 ≤ 60) (hh : ∀ j, j < (rg.gl g).length → 1 ≤ handN D rg f p j ∧ handN D rg f p j ≤ rg.nK f ∧ X.aR i (handN D rg f p j) < 2000) (ha : rd σ 117 8 = i32 (a : Int)) (hcs : a + 1 + 2 * (rg.gl g).length ≤ cs) (hmany : rd σ 95 a = i32 ((rg.gl g).length : Int)) (hcode : ∀ j, j < (rg.gl g).length → rd σ 95 (a + 1 + 2 * j) = i32 (handN D rg f p j : Int) ∧ rd σ 95 (a + 1 + 2 * j + 1) = i32 ((rg.gl g).getD j 0 : Nat)) (hb : b + D.bk g = n) (hE : rd σ 96 g = i32 (E : Int)) (d : Nat) :
    (i = 300 ∧ ∃ σ', rn L xs (d + 4) 272 0 [.ref 117, .int (i32 (g : Int)), jv, jv, jv, jv, jv] [] σ = some (.inl none, σ') ∧ CVR st 4 s X.B X.no pgs wd ev σ' ∧ frW RCr σ σ') ∨
    (i < 300 ∧ ∃ σ', rn L xs (d + 4) 272 0 [.ref 117, .int (i32 (g : Int)), jv, jv, jv, jv, jv] [] σ = some (.inl none, σ') ∧ CMf rg (caX D rg X i p b) (uq bk i (a + 1 + 2 * (rg.gl g).length)) (i + 1) σ' ∧ rd σ' 117 8 = i32 (E : Int) ∧ (∀ q, q = 5 ∨ q = 6 ∨ q = 7 → rd σ' 117 q = rd σ 117 q) ∧ frW [117, 118, 119, 120, 121, 122] σ σ') := by
  obtain ⟨⟨m1, m2, m3, m4, m5⟩, m6, m7⟩ := id hF
  by_cases c : i = 300
  · obtain ⟨σ1, g1, g2, g3⟩ := cend_c (L := L) (xs := xs) (c := 4) hP.1 hM hp1 (d + 1)
    have g1 : rn L xs (d + 3) 252 0 [.ref 117, .int 4] [] σ = some (.inl none, σ1) := g1
    refine .inl ⟨c, σ1, ?_, g2, g3.sub rfl⟩
    rw [e272_0 (d + 3), m4, show (300 : Int32) = i32 300 from rfl, c2_ne (by omega) (by omega) (by omega) (by omega), c_f (by omega), bV_ok g1]
  · have hi : i < 300 := by omega
    have p1 := next_c (L := L) (xs := xs) hRS ha (by omega) (d + 1)
    obtain ⟨σ1, e1⟩ : ∃ σ1, σ1 = wr σ 117 8 (i32 ((a + 1 : Nat) : Int)) := ⟨_, rfl⟩
    rw [← e1, hmany] at p1
    have w1 : frW [117] σ σ1 := by rw [e1]; exact frW_wr rfl
    have q1 : ∀ q, q ≠ 8 → rd σ1 117 q = rd σ 117 q := fun q hq => by rw [e1, wr_nei hq]
    have hRS1 := hRS.fr w1 rfl
    have hF1 : CMf rg X bk i σ1 := hF.fr (fun q hq => q1 q (by omega)) (fun j hj q => by rcases hj with e | e | e | e | e <;> rw [e] <;> exact w1.1 _ rfl q)
    have p2 : rn L xs (d + 3) 179 0 [.ref 74, .int (i32 (f : Int))] [] σ1 = some (.inl (some (.int (i32 (rg.nK f : Int)))), σ1) := by
      rw [e179_0, c_in (by omega) (by omega) (by omega), i32_ixn (by omega), w1.1 80 rfl, (hRS.2.1 f hfc).2.1]
    have eh : i32 (hdF rg X.ff i : Int) + i32 (rg.nK f : Int) = i32 (hdF rg X.ff (i + 1) : Int) := by rw [i32_add, ← hf]; rfl
    obtain ⟨σ2, u4, u5, u6, b1, b2, b3, b4, b5, b6⟩ := chand_loop (L := L) (xs := xs) (c := a + 1) (p := p) hRS1 hF1 hf hnK hi hgl hnd hm hh hcs (fun j hj => by rw [w1.1 95 rfl, w1.1 95 rfl]; exact hcode j hj) (i32 (g : Int)) (d + 1) (rg.gl g).length 0 σ1 (dj (dj jv)) (dj (dj jv)) (by omega) frW.refl (by rw [e1, wr_self]) (fun _ _ => rfl) (fun _ _ => rfl) (fun q hq => by omega)
    have w12 : frW [117, 118] σ σ2 := (w1.sub rfl).trans b2
    have hRS2 := hRS1.fr b2 rfl
    -- enter
    have hF2 : CMf rg X bk i σ2 := by
      refine ⟨⟨by rw [b4 9 (by decide)]; exact hF1.1.1, by rw [b4 10 (by decide)]; exact hF1.1.2.1, by rw [b4 11 (by decide)]; exact hF1.1.2.2.1, by rw [b4 17 (by decide)]; exact hF1.1.2.2.2.1, m5⟩, fun j hj => by rw [b2.1 119 rfl, b2.1 120 rfl, b2.1 121 rfl, b2.1 122 rfl]; exact hF1.2.1 j hj, fun j k hj k1 k2 k3 => ?_⟩
      rw [b5 _ (by have := hdF_lt (rg := rg) (ff := X.ff) (show j < i + 1 by omega); omega)]; exact hF1.2.2 j k hj k1 k2 k3
    obtain ⟨σ3, c1, c2, c3, c4, c5⟩ := enter_c (L := L) (xs := xs) hRS2 hF2 hi (by omega) (by omega) b3 (d + 1)
    obtain ⟨σ4, e4⟩ : ∃ σ4, σ4 = wr σ3 117 11 (i32 (hdF rg X.ff (i + 1) : Int)) := ⟨_, rfl⟩
    have w4 : frW [117] σ3 σ4 := by rw [e4]; exact frW_wr rfl
    have w04 : frW [117, 118, 119, 120, 121, 122] σ σ4 := ((w12.sub rfl).trans (c5.sub rfl)).trans (w4.sub rfl)
    have p5 : rn L xs (d + 3) 217 0 [.ref 100] [] σ4 = some (.inl (some (.int (i32 (n : Int)))), σ4) := by rw [e217_0, w04.1 100 rfl, hP.2.1.1]
    have e44 : rd σ4 44 g = i32 (D.bk g : Int) := by rw [w04.1 44 rfl]; exact (hRS.2.1 g hg).2.2
    have eb : i32 (n : Int) - i32 (D.bk g : Int) = i32 (b : Int) := by rw [i32_sub]; congr 1; omega
    obtain ⟨σ5, e5⟩ : ∃ σ5, σ5 = wr (wr σ4 117 9 (i32 (b : Int))) 117 10 (i32 (g : Int)) := ⟨_, rfl⟩
    have w5 : frW [117] σ4 σ5 := by rw [e5]; exact (frW_wr rfl).trans (frW_wr rfl)
    have w05 : frW [117, 118, 119, 120, 121, 122] σ σ5 := w04.trans (w5.sub rfl)
    have p6 : rn L xs (d + 3) 211 0 [.ref 94, .int (i32 (g : Int))] [] σ5 = some (.inl (some (.int (i32 (E : Int)))), σ5) := by rw [e211_0, c_in (by omega) (by omega) (by omega), i32_ixn (by omega), w05.1 96 rfl, hE]
    obtain ⟨σ6, e6⟩ : ∃ σ6, σ6 = wr σ5 117 8 (i32 (E : Int)) := ⟨_, rfl⟩
    have w6 : frW [117] σ5 σ6 := by rw [e6]; exact frW_wr rfl
    have w36 : frW [117] σ3 σ6 := (w4.trans w5).trans w6
    have eff : ∀ j, j ≤ i → (caX D rg X i p b).ff j = X.ff j := fun j hj => by unfold dyD.ff; rw [show (caX D rg X i p b).fr j = X.fr j from uq_ne (by omega)]
    have ebs : ∀ j, j ≤ i → (caX D rg X i p b).bs j = X.bs j := fun j hj => by unfold dyD.bs; rw [show (caX D rg X i p b).fr j = X.fr j from uq_ne (by omega)]
    have efn : (caX D rg X i p b).fr (i + 1) = (D.vl p, b, -1) := uq_self
    have ehd : ∀ j, j ≤ i + 1 → hdF rg (caX D rg X i p b).ff j = hdF rg X.ff j := fun j hj => hdF_congr j (fun q hq => eff q (by omega))
    refine .inr ⟨hi, σ6, ?_, ⟨⟨?_, ?_, ?_, ?_, by omega⟩, fun j hj => ?_, fun j k hj k1 k2 k3 => ?_⟩, by rw [e6, wr_self], fun q hq => ?_, w05.trans (w6.sub rfl)⟩
    · have b1 : rn L xs (d + 4) 272 41 [.ref 117, .int (i32 (g : Int)), .int (i32 ((rg.gl g).length : Int)), .int (i32 (hdF rg X.ff (i + 1) : Int)), .int 0, dj (dj jv), dj (dj jv)] [] σ1 = rn L xs (d + 4) 272 90 [.ref 117, .int (i32 (g : Int)), .int (i32 ((rg.gl g).length : Int)), .int (i32 (hdF rg X.ff (i + 1) : Int)), u4, u5, u6] [] σ2 := b1
      rw [e272_0 (d + 3), m4, show (300 : Int32) = i32 300 from rfl, c2_ne (by omega) (by omega) (by omega) (by omega), c_t (by omega), e272_16 (d + 3), bI_ok p1, hF1.1.2.1, hf, bI_ok p2, hF1.1.2.2.1, eh, b1, e272_90 (d + 3), bI_ok c1, ← e4, bI_ok p5, c_in (by omega) (by omega) (by omega), i32_ixn (by omega), e44, eb, ← e5, bI_ok p6, ← e6]
    · unfold dyD.bs; rw [efn, e6, wr_nei (by decide), e5, wr_nei (by decide), wr_self]
    · unfold dyD.ff; rw [efn, e6, wr_nei (by decide), e5, wr_self, ← hgp]
    · rw [ehd _ (Nat.le_refl _), e6, wr_nei (by decide), e5, wr_nei (by decide), wr_nei (by decide), e4, wr_self]
    · rw [e6, wr_nei (by decide), e5, wr_nei (by decide), wr_nei (by decide), e4, wr_nei (by decide)]; exact c2
    · rw [ebs j (by omega), eff j (by omega), ehd j (by omega), w36.1 119 rfl, w36.1 120 rfl, w36.1 121 rfl, w36.1 122 rfl]; exact c4 j hj
    · rw [ehd j hj, w36.1 118 rfl, c5.1 118 rfl]
      by_cases e : j = i + 1
      · subst e
        have ev : (caX D rg X i p b).aR (i + 1) k = if k ∈ rg.gl (D.vl p) then X.aR i (handN D rg (X.ff i) p ((rg.gl (D.vl p)).idxOf k)) else 2000 := if_pos rfl
        rw [ev, hgp] at k3 ⊢
        by_cases q : k ∈ rg.gl g
        · rw [if_pos q, hf]
          have hlt := List.idxOf_lt_length_of_mem q
          have ek : (rg.gl g).getD ((rg.gl g).idxOf k) 0 = k := by
            rw [List.getD_eq_getElem?_getD, List.getElem?_eq_getElem hlt]; exact List.getElem_idxOf hlt
          have := b6 _ hlt
          rw [ek] at this
          exact this
        · rw [if_neg q] at k3; exact absurd k3 (by omega)
      · have ev : (caX D rg X i p b).aR j k = X.aR j k := if_neg e
        rw [ev] at k3 ⊢
        rw [eff j (by omega)] at k2
        exact hF2.2.2 j k (by omega) k1 k2 k3
    · rw [e6, wr_nei (by omega), e5, wr_nei (by omega), wr_nei (by omega), e4, wr_nei (by omega), c3 q (by omega), b4 q (by omega), q1 q (by omega)]
/-- what a closure keeps is told -/
theorem cakep_loop {kl : List Nat} {ks : List (Nat × Nat)} {H b0 : Nat} (hRS : RSc D rg cd cs σ0) (hj : j0 < D.bF (D.fc + 1)) (hj2 : j0 < 4101) (hkl : kl = rg.kp j0) (hk60 : kl.length ≤ 60) (hnd : kl.Nodup) (hk : ∀ j, j < kl.length → 1 ≤ kl.getD j 0 ∧ kl.getD j 0 ≤ 60) (h11 : rd σ0 117 11 = i32 (H : Int)) (hH : H ≤ 18000) (hks : ks.length = kl.length) (hb0 : b0 + kl.length ≤ 51200) (hw : ∀ t r' s' : Nat, ks[t]? = some (r', s') → rd σ0 104 (b0 + t) = i32 (r' : Int)) (d : Nat) :
    ∀ (j t : Nat) (σ : tvS) (v1 : Value), t + j = kl.length → frW [118] σ0 σ → (∀ q, q < H → rd σ 118 q = rd σ0 118 q) → (∀ q r' s' : Nat, q < t → ks[q]? = some (r', s') → rd σ 118 (H + kl.getD q 0 - 1) = i32 (r' : Int)) →
      ∃ σ' v1' v4', rn L xs (d + 2) 274 91 [.ref 117, v1, .int (i32 (j0 : Int)), .int (i32 (b0 : Int)), .int (i32 (t : Int))] [] σ = rn L xs (d + 2) 274 143 [.ref 117, v1', .int (i32 (j0 : Int)), .int (i32 (b0 : Int)), v4'] [] σ' ∧ frW [118] σ0 σ' ∧ (∀ q, q < H → rd σ' 118 q = rd σ0 118 q) ∧ ∀ q r' s' : Nat, ks[q]? = some (r', s') → rd σ' 118 (H + kl.getD q 0 - 1) = i32 (r' : Int) := by
  have h84 := (hRS.2.2.2.1 j0 hj).2
  rw [← hkl] at h84
  obtain ⟨kf, k1, k2, k3, k4, k5⟩ := hRS.2.2.2.2.1 j0 hj
  rw [← hkl] at k2 k3 k5
  intro j
  induction j with
  | zero =>
    intro t σ v1 ht w ho hn
    have e : t = kl.length := by omega
    subst e
    have p1 : rn L xs (d + 1) 161 0 [.ref 74, .int (i32 (j0 : Int))] [] σ = some (.inl (some (.int (i32 (kl.length : Int)))), σ) := by rw [e161_0, c_in (by omega) (by omega) (by omega), i32_ixn (by omega), w.1 84 rfl, h84]
    refine ⟨σ, dj v1, .int (i32 (kl.length : Int)), ?_, w, ho, fun q r' s' hq => hn q r' s' (by rw [← hks]; exact (List.getElem?_eq_some_iff.mp hq).1) hq⟩
    rw [e274_91 (d + 1), bI_ok p1, c2_ge (by omega) (by omega) (by omega) (by omega), c_t (by omega)]
  | succ j ih =>
    intro t σ v1 ht w ho hn
    obtain ⟨y1, y2⟩ := hk t (by omega)
    have hlt : t < ks.length := by omega
    obtain ⟨⟨r0, s0⟩, hrs⟩ : ∃ y, ks[t]? = some y := ⟨_, List.getElem?_eq_getElem hlt⟩
    have yw := hw t r0 s0 hrs
    have p1 : rn L xs (d + 1) 161 0 [.ref 74, .int (i32 (j0 : Int))] [] σ = some (.inl (some (.int (i32 (kl.length : Int)))), σ) := by rw [e161_0, c_in (by omega) (by omega) (by omega), i32_ixn (by omega), w.1 84 rfl, h84]
    have ek : i32 (kf : Int) + i32 (t : Int) = i32 ((kf + t : Nat) : Int) := by rw [i32_add]; congr 1
    have p2 : rn L xs (d + 1) 180 0 [.ref 74, .int (i32 (j0 : Int)), .int (i32 (t : Int))] [] σ = some (.inl (some (.int (i32 ((kl.getD t 0 : Nat) : Int)))), σ) := by
      rw [e180_0, c_in (by omega) (by omega) (by omega), i32_ixn (by omega), w.1 83 rfl, k1, ek, w.ln, c_in (by omega) (by omega) k4, i32_ixn (by omega), w.1 85 rfl, k5 t (by omega)]
    have eb : i32 (b0 : Int) + i32 (t : Int) = i32 ((b0 + t : Nat) : Int) := by rw [i32_add]; congr 1
    have p3 : rn L xs (d + 1) 245 0 [.ref 103, .int (i32 ((b0 + t : Nat) : Int))] [] σ = some (.inl (some (.int (i32 (r0 : Int)))), σ) := by rw [e245_0, c_in (by omega) (by omega) (by omega), i32_ixn (by omega), w.1 104 rfl, yw]
    have eh : (i32 (H : Int) + i32 ((kl.getD t 0 : Nat) : Int)) - 1 = i32 ((H + kl.getD t 0 - 1 : Nat) : Int) := by rw [show (1 : Int32) = i32 1 from rfl, i32_add, i32_sub]; congr 1; omega
    obtain ⟨σ1, e1⟩ : ∃ σ1, σ1 = wr σ 118 (H + kl.getD t 0 - 1) (i32 (r0 : Int)) := ⟨_, rfl⟩
    have w1 : frW [118] σ σ1 := by rw [e1]; exact frW_wr rfl
    obtain ⟨σ', v1', v4', b1, b2, b3, b4⟩ := ih (t + 1) σ1 (dj (dj (dj v1))) (by omega) (w.trans w1) (fun q hq => by rw [e1, wr_nei (by omega)]; exact ho q hq) (fun q r' s' hq hq2 => by
      by_cases e : q = t
      · subst e
        have e3 : (r0, s0) = (r', s') := by rw [hrs] at hq2; injection hq2
        rw [e1, wr_self, show r0 = r' from congrArg Prod.fst e3]
      · have hne : kl.getD q 0 ≠ kl.getD t 0 := fun h => e (by
          have h1 := idx_at hnd (show q < kl.length by omega)
          have h2 := idx_at hnd (show t < kl.length by omega)
          rw [h] at h1; omega)
        have := (hk q (by omega)).1
        rw [e1, wr_nei (by omega)]; exact hn q r' s' (by omega) hq2)
    refine ⟨σ', v1', v4', ?_, b2, b3, b4⟩
    rw [e274_91 (d + 1), bI_ok p1, c2_ge (by omega) (by omega) (by omega) (by omega), c_f (by omega), bI_ok p2, eb, bI_ok p3, w.1 117 rfl, h11, eh, c_in (by omega) (by omega) (by omega), i32_ixn (by omega), ← e1, i32_up]
    exact b1
end CCALLS
