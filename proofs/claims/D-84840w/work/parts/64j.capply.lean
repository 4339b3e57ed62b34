/-! RUNS, COMPONENT: applications, the way back -/
section CAPPLY
variable {L : Nat} {xs : Nat → Int32} {σ σ' σ0 σ1 σ2 : tvS} {D : pgD} {rg : rgD} {cd : cdD} {vd : Nat → Nat} {X X' : dyD} {n n' nr wd pgs cs a b i st ev B no f g k r sz to N p j0 o q κ m E : Nat} {pl : Nat → Nat} {fl : List Nat} {s s' : cSt} {pg : Nat → List Nat} {fn : Nat → Nat × Nat} {bk : Nat → Nat}
theorem capply_c (hRS : RSc D rg cd cs σ) (hP : CPs D X n nr wd pgs s pl pg fl σ) (hF : CMf rg X bk i σ) (hM : CMc fn X.B X.no st ev nr σ) (hp1 : 1 ≤ pgs) (hH : GCH D rg cd X n nr wd) (hfi : X.ff i ≤ D.fc) (hf20 : D.fc ≤ 20) (hnK : ∀ j, j ≤ i → rg.nK (X.ff j) ≤ 60) (hn : 2 ≤ n) (ho : X.sv (n - 2) = (2, i32 (o : Int))) (h1 : 1 ≤ o) (h2 : o ≤ X.no) (hkd3 : (X.hp o).kd = 3) (hj0 : D.vl (X.hp o).pt = j0) (hj : j0 < D.bF (D.fc + 1)) (hj2 : j0 < 4101) (hk60 : (rg.kp j0).length ≤ 60) (hnd : (rg.kp j0).Nodup) (hk : ∀ j, j < (rg.kp j0).length → 1 ≤ (rg.kp j0).getD j 0 ∧ (rg.kp j0).getD j 0 ≤ 60) (ha : rd σ 117 8 = i32 (a : Int)) (hE : rd σ 97 j0 = i32 (E : Int)) (hf98 : rd σ 98 j0 = i32 (f : Int)) (d : Nat) :
    (i = 300 ∧ ∃ σ', rn L xs (d + 4) 274 0 [.ref 117, jv, jv, jv, jv] [] σ = some (.inl none, σ') ∧ CVR st 4 s X.B X.no pgs wd ev σ' ∧ frW RCr σ σ') ∨
    (i < 300 ∧ ∃ σ', rn L xs (d + 4) 274 0 [.ref 117, jv, jv, jv, jv] [] σ = some (.inl none, σ') ∧ CMf rg (apX D rg cd vd X i o (n - 2) f) (uq bk i a) (i + 1) σ' ∧ rd σ' 117 8 = i32 (E : Int) ∧ (∀ q, q = 5 ∨ q = 6 ∨ q = 7 → rd σ' 117 q = rd σ 117 q) ∧ frW [117, 118, 119, 120, 121, 122] σ σ') := by
  obtain ⟨⟨m1, m2, m3, m4, m5⟩, m6, m7⟩ := id hF
  by_cases c : i = 300
  · obtain ⟨σ1, g1, g2, g3⟩ := cend_c (L := L) (xs := xs) (c := 4) hP.1 hM hp1 (d + 1)
    have g1 : rn L xs (d + 3) 252 0 [.ref 117, .int 4] [] σ = some (.inl none, σ1) := g1
    refine .inl ⟨c, σ1, ?_, g2, g3.sub rfl⟩
    rw [e274_0 (d + 3), m4, show (300 : Int32) = i32 300 from rfl, c2_ne (by omega) (by omega) (by omega) (by omega), c_f (by omega), bV_ok g1]
  · have hi : i < 300 := by omega
    obtain ⟨g1, g2, g3, g4⟩ := hP
    have hn4 := g2.2.1
    have hRo : RCO X n o := ⟨n - 2, by omega, 0, ho, h1, h2⟩
    obtain ⟨hWo, hgi, hszo, _⟩ := hH.2.2 o hRo
    obtain ⟨hw1, hw2, _⟩ := hWo.2.2.1 hkd3
    rw [hj0] at hw1 hw2
    obtain ⟨hPL, hCo⟩ := g3.1 o hRo
    obtain ⟨pp, p1, p2, p3⟩ := hPL.page (g4.2.2.2 _ hgi).2
    have hplp := page_le (wd := wd) ((g1.2.2.2.1.1 _ hgi).2 pp p1).1
    have hpw := pgs_wd g1.2.2.2.2.2.2.1 g1.2.2.2.2.2.2.2.1
    have hsz := hWo.sz
    have t1 := top_c (L := L) (xs := xs) g2 (by omega) (d + 1)
    have c1 := val_c (L := L) (xs := xs) (k := n - 2) g2 (by omega) (d + 2)
    have ec : cwd pl (X.sv (n - 2)) = i32 (pl o : Int) := by rw [ho]; unfold cwd; rw [if_pos rfl, oid_of (o := o) rfl (by have := hH.2.1; omega)]
    rw [ec] at c1
    have en : i32 ((n - 1 : Nat) : Int) - 1 = i32 ((n - 2 : Nat) : Int) := by rw [show (1 : Int32) = i32 1 from rfl, i32_sub]; congr 1; omega
    have ehd : hdO D (X.hp o) = 2 + j0 := by unfold hdO; rw [if_neg (by omega), if_neg (by omega), hj0]
    have c2 : rn L xs (d + 3) 245 0 [.ref 103, .int (i32 (pl o : Int))] [] σ = some (.inl (some (.int (i32 ((2 + j0 : Nat) : Int)))), σ) := by rw [e245_0, c_in (by omega) (by omega) (by omega), i32_ixn (by omega), hCo.1.1, ehd]
    have e2 : i32 ((2 + j0 : Nat) : Int) - 2 = i32 (j0 : Int) := by rw [show (2 : Int32) = i32 2 from rfl, i32_sub]; congr 1; omega
    obtain ⟨σ1, b1, b2, b3, b4, b5⟩ := enter_c (L := L) (xs := xs) hRS hF hi (by omega) hfi ha (d + 1)
    obtain ⟨σ2, e4⟩ : ∃ σ2, σ2 = wr σ1 117 11 (i32 (hdF rg X.ff (i + 1) : Int)) := ⟨_, rfl⟩
    have w2 : frW [117] σ1 σ2 := by rw [e4]; exact frW_wr rfl
    have w02 : frW [117, 119, 120, 121, 122] σ σ2 := b5.trans (w2.sub rfl)
    have q5 : rn L xs (d + 3) 217 0 [.ref 100] [] σ2 = some (.inl (some (.int (i32 (n : Int)))), σ2) := by rw [e217_0, w02.1 100 rfl, g2.1]
    have eb : i32 (n : Int) - 2 = i32 ((n - 2 : Nat) : Int) := by rw [show (2 : Int32) = i32 2 from rfl, i32_sub]; congr 1; omega
    obtain ⟨σ3, e5⟩ : ∃ σ3, σ3 = wr σ2 117 9 (i32 ((n - 2 : Nat) : Int)) := ⟨_, rfl⟩
    have w3 : frW [117] σ2 σ3 := by rw [e5]; exact frW_wr rfl
    have w03 : frW [117, 119, 120, 121, 122] σ σ3 := w02.trans (w3.sub rfl)
    have q6 : rn L xs (d + 3) 213 0 [.ref 94, .int (i32 (j0 : Int))] [] σ3 = some (.inl (some (.int (i32 (f : Int)))), σ3) := by rw [e213_0, c_in (by omega) (by omega) (by omega), i32_ixn (by omega), w03.1 98 rfl, hf98]
    have e39 : rd σ3 39 j0 = i32 ((cd.cg j0).length : Int) := by rw [w03.1 39 rfl]; exact (hRS.2.2.2.1 j0 hj).1
    have efrom : (i32 (pl o : Int) + 1) + i32 ((cd.cg j0).length : Int) = i32 ((pl o + 1 + (cd.cg j0).length : Nat) : Int) := by rw [i32_up, i32_add]; congr 1
    obtain ⟨σ4, e6⟩ : ∃ σ4, σ4 = wr σ3 117 10 (i32 (f : Int)) := ⟨_, rfl⟩
    have w4 : frW [117] σ3 σ4 := by rw [e6]; exact frW_wr rfl
    have w04 : frW [117, 119, 120, 121, 122] σ σ4 := w03.trans (w4.sub rfl)
    have hhd := hdF_60 (rg := rg) (ff := X.ff) (i := i + 1) (fun j hj => hnK j (by omega)) (i + 1) (Nat.le_refl _)
    obtain ⟨σ5, u1, u4, d1, d2, d3, d4⟩ := cakep_loop (L := L) (xs := xs) (σ0 := σ4) (kl := rg.kp j0) (ks := (X.hp o).kp) (H := hdF rg X.ff (i + 1)) (b0 := pl o + 1 + (cd.cg j0).length) (hRS.fr w04 rfl) hj hj2 rfl hk60 hnd hk (by rw [e6, wr_nei (by decide), e5, wr_nei (by decide), e4, wr_self]) (by omega) hw2 (by omega) (fun t r' s' ht => by rw [w04.1 104 rfl, ← hw1]; exact (hCo.2.2 t r' s' ht).1) (d + 2) (rg.kp j0).length 0 σ4 (.int (i32 (pl o : Int))) (by omega) frW.refl (fun _ _ => rfl) (fun q r' s' hq => by omega)
    have w05 : frW [117, 118, 119, 120, 121, 122] σ σ5 := (w04.sub rfl).trans (d2.sub rfl)
    have q7 : rn L xs (d + 3) 214 0 [.ref 94, .int (i32 (j0 : Int))] [] σ5 = some (.inl (some (.int (i32 (E : Int)))), σ5) := by rw [e214_0, c_in (by omega) (by omega) (by omega), i32_ixn (by omega), w05.1 97 rfl, hE]
    obtain ⟨σ6, e7⟩ : ∃ σ6, σ6 = wr σ5 117 8 (i32 (E : Int)) := ⟨_, rfl⟩
    have w6 : frW [117] σ5 σ6 := by rw [e7]; exact frW_wr rfl
    have w16 : frW [117, 118] σ1 σ6 := ((((w2.sub rfl).trans (w3.sub rfl)).trans (w4.sub rfl)).trans (d2.sub rfl)).trans (w6.sub rfl)
    have eff : ∀ j, j ≤ i → (apX D rg cd vd X i o (n - 2) f).ff j = X.ff j := fun j hj => by unfold dyD.ff; rw [show (apX D rg cd vd X i o (n - 2) f).fr j = X.fr j from uq_ne (by omega)]
    have ebs : ∀ j, j ≤ i → (apX D rg cd vd X i o (n - 2) f).bs j = X.bs j := fun j hj => by unfold dyD.bs; rw [show (apX D rg cd vd X i o (n - 2) f).fr j = X.fr j from uq_ne (by omega)]
    have efn : (apX D rg cd vd X i o (n - 2) f).fr (i + 1) = (f, n - 2, (D.vl (X.hp o).pt : Int)) := uq_self
    have ehd' : ∀ j, j ≤ i + 1 → hdF rg (apX D rg cd vd X i o (n - 2) f).ff j = hdF rg X.ff j := fun j hj => hdF_congr j (fun q hq => eff q (by omega))
    refine .inr ⟨hi, σ6, ?_, ⟨⟨?_, ?_, ?_, ?_, by omega⟩, fun j hj => ?_, fun j k' hj k1 k2 k3 => ?_⟩, by rw [e7, wr_self], fun q hq => ?_, w05.trans (w6.sub rfl)⟩
    · have d1 : rn L xs (d + 4) 274 91 [.ref 117, .int (i32 (pl o : Int)), .int (i32 (j0 : Int)), .int (i32 ((pl o + 1 + (cd.cg j0).length : Nat) : Int)), .int 0] [] σ4 = rn L xs (d + 4) 274 143 [.ref 117, u1, .int (i32 (j0 : Int)), .int (i32 ((pl o + 1 + (cd.cg j0).length : Nat) : Int)), u4] [] σ5 := d1
      rw [e274_0 (d + 3), m4, show (300 : Int32) = i32 300 from rfl, c2_ne (by omega) (by omega) (by omega) (by omega), c_t (by omega), e274_16 (d + 3), bI_ok t1, en, bI_ok c1, bI_ok c2, bI_ok b1, ← e4, bI_ok q5, eb, ← e5, e2, bI_ok q6, c_in (by omega) (by omega) (by omega), i32_ixn (by omega), e39, efrom, ← e6, d1, e274_143 (d + 3), bI_ok q7, ← e7]
    · unfold dyD.bs; rw [efn, e7, wr_nei (by decide), d2.1 117 rfl, e6, wr_nei (by decide), e5, wr_self]
    · unfold dyD.ff; rw [efn, e7, wr_nei (by decide), d2.1 117 rfl, e6, wr_self]
    · rw [ehd' _ (Nat.le_refl _), e7, wr_nei (by decide), d2.1 117 rfl, e6, wr_nei (by decide), e5, wr_nei (by decide), e4, wr_self]
    · rw [e7, wr_nei (by decide), d2.1 117 rfl, e6, wr_nei (by decide), e5, wr_nei (by decide), e4, wr_nei (by decide)]; exact b2
    · rw [ebs j (by omega), eff j (by omega), ehd' j (by omega), w16.1 119 rfl, w16.1 120 rfl, w16.1 121 rfl, w16.1 122 rfl]; exact b4 j hj
    · rw [ehd' j hj, w6.1 118 rfl]
      by_cases e : j = i + 1
      · subst e
        have ev : (apX D rg cd vd X i o (n - 2) f).aR (i + 1) k' = if k' ∈ rg.kp j0 then (((X.hp o).kp.getD ((rg.kp j0).idxOf k') (2000, 0)).1) else 2000 := by rw [← hj0]; exact if_pos rfl
        rw [ev] at k3 ⊢
        by_cases q : k' ∈ rg.kp j0
        · rw [if_pos q]
          have hlt := List.idxOf_lt_length_of_mem q
          have hlt2 : (rg.kp j0).idxOf k' < (X.hp o).kp.length := by omega
          have ek : (rg.kp j0).getD ((rg.kp j0).idxOf k') 0 = k' := by
            rw [List.getD_eq_getElem?_getD, List.getElem?_eq_getElem hlt]; exact List.getElem_idxOf hlt
          have := d4 ((rg.kp j0).idxOf k') ((X.hp o).kp[(rg.kp j0).idxOf k']).1 ((X.hp o).kp[(rg.kp j0).idxOf k']).2 (List.getElem?_eq_getElem hlt2)
          rw [ek] at this
          rw [this, List.getD_eq_getElem?_getD, List.getElem?_eq_getElem hlt2]; rfl
        · rw [if_neg q] at k3; exact absurd k3 (by omega)
      · have ev : (apX D rg cd vd X i o (n - 2) f).aR j k' = X.aR j k' := if_neg e
        rw [ev] at k3 ⊢
        rw [eff j (by omega)] at k2
        have hlt := hdF_lt (rg := rg) (ff := X.ff) (show j < i + 1 by omega)
        rw [d3 _ (by omega), w4.1 118 rfl, w03.1 118 rfl]
        exact m7 j k' (by omega) k1 k2 k3
    · rw [e7, wr_nei (by omega), d2.1 117 rfl, e6, wr_nei (by omega), e5, wr_nei (by omega), e4, wr_nei (by omega), b3 q (by omega)]
/-- the way back -/
theorem cback_c (hS : CSt n X.sv pl σ) (hF : CMf rg X bk (i + 1) σ) (hb : X.bs (i + 1) < n) (d : Nat) :
    ∃ σ', rn L xs (d + 3) 275 0 [.ref 117] [] σ = some (.inl none, σ') ∧ CSt (X.bs (i + 1) + 1) (uq X.sv (X.bs (i + 1)) (X.sv (n - 1))) pl σ' ∧ CMf rg X bk i σ' ∧ rd σ' 117 8 = i32 (bk i : Int) ∧ (∀ q, q = 5 ∨ q = 6 ∨ q = 7 → rd σ' 117 q = rd σ 117 q) ∧ frW [100, 101, 102, 117] σ σ' := by
  obtain ⟨⟨m1, m2, m3, m4, m5⟩, m6, m7⟩ := hF
  obtain ⟨y1, y2, y3, y4⟩ := m6 i (by omega)
  have p1 : rn L xs (d + 2) 217 0 [.ref 100] [] σ = some (.inl (some (.int (i32 (n : Int)))), σ) := by rw [e217_0, hS.1]
  have e1 : (i32 (n : Int) - 1) - i32 (X.bs (i + 1) : Int) = i32 ((n - 1 - X.bs (i + 1) : Nat) : Int) := by rw [show (1 : Int32) = i32 1 from rfl, i32_sub, i32_sub]; congr 1; omega
  obtain ⟨σ1, b1, b2, b3⟩ := slide_c (L := L) (xs := xs) (k := n - 1 - X.bs (i + 1)) hS (by omega) d
  rw [show n - (n - 1 - X.bs (i + 1)) = X.bs (i + 1) + 1 by omega, show n - 1 - (n - 1 - X.bs (i + 1)) = X.bs (i + 1) by omega] at b2
  have em : i32 ((i + 1 : Nat) : Int) - 1 = i32 (i : Int) := by rw [show (1 : Int32) = i32 1 from rfl, i32_sub]; congr 1; omega
  obtain ⟨σ2, e2⟩ : ∃ σ2, σ2 = wr (wr (wr (wr (wr σ1 117 17 (i32 (i : Int))) 117 8 (i32 (bk i : Int))) 117 9 (i32 (X.bs i : Int))) 117 10 (i32 (X.ff i : Int))) 117 11 (i32 (hdF rg X.ff i : Int)) := ⟨_, rfl⟩
  have w2 : frW [117] σ1 σ2 := by rw [e2]; exact ((((frW_wr rfl).trans (frW_wr rfl)).trans (frW_wr rfl)).trans (frW_wr rfl)).trans (frW_wr rfl)
  refine ⟨σ2, ?_, b2.fr (fun j hj q => by rcases hj with e | e | e <;> rw [e] <;> exact w2.1 _ rfl q), ⟨⟨?_, ?_, ?_, ?_, by omega⟩, fun j hj => by rw [w2.1 119 rfl, b3.1 119 rfl, w2.1 120 rfl, b3.1 120 rfl, w2.1 121 rfl, b3.1 121 rfl, w2.1 122 rfl, b3.1 122 rfl]; exact m6 j (by omega), fun j k hj k1 k2 k3 => by rw [w2.1 118 rfl, b3.1 118 rfl]; exact m7 j k (by omega) k1 k2 k3⟩, ?_, fun q hq => ?_, (b3.sub rfl).trans (w2.sub rfl)⟩
  · rw [e275_0 (d + 2), bI_ok p1, m1, e1, bV_ok b1, b3.1 117 rfl, m4, em, c_in (by omega) (by omega) (by omega), c_in (by omega) (by omega) (by omega), c_in (by omega) (by omega) (by omega), c_in (by omega) (by omega) (by omega), i32_ixn (by omega), b3.1 119 rfl, b3.1 120 rfl, b3.1 121 rfl, b3.1 122 rfl, y1, y2, y3, y4, ← e2]
  · rw [e2, wr_nei (by decide), wr_nei (by decide), wr_self]
  · rw [e2, wr_nei (by decide), wr_self]
  · rw [e2, wr_self]
  · rw [e2, wr_nei (by decide), wr_nei (by decide), wr_nei (by decide), wr_nei (by decide), wr_self]
  · rw [e2, wr_nei (by decide), wr_nei (by decide), wr_nei (by decide), wr_self]
  · rw [e2, wr_nei (by omega), wr_nei (by omega), wr_nei (by omega), wr_nei (by omega), wr_nei (by omega), b3.1 117 rfl]
end CAPPLY
