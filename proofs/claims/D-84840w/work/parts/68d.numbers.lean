/-! WHAT WAS FOUND, plainly: all that a run wants to know of types and numbers -/
section SPFOF
variable {σ τ : tvS} {K1 K2 g g' : Nat} {T T0 T2 T0' T2' : tyJ} {D : pgD} {G : sgD} {m : Nat} {rg : rgD} {bl bl' : List Nat} {pt by' pt' by'' : Nat → Nat} {cd : cdD}
theorem PFf.root (hF : PFf D m g) {q : Nat} (h1 : D.bP g ≤ q) (h2 : q < D.bP (g + 1)) : D.bP g ≤ D.bP (g + 1) - 1 ∧ D.bP (g + 1) - 1 < D.bP (g + 1) ∧ spn D (D.bP (g + 1) - 1) q := by
  have := hF.1.1
  have h := hF.2.1.1
  refine ⟨by omega, by omega, by rw [h]; exact h1, by omega⟩
/-- what a function is given is boxed -/
theorem VWf.gbox (V : VWf K1 K2 D G rg g T0 T2 T bl pt by' σ τ) (hF : PGF D m) (hg : g ≤ D.fc) {i : Nat} (hi : i < G.ng g) : 2 ≤ (yG T2).1 (yC T2 (G.XC g (D.bk g + 1 + i))) := by
  obtain ⟨_, _, _, _, n5, n6, _, _, _, ⟨x1, _, _, x4⟩, _⟩ := V
  obtain ⟨y1, y2, y3⟩ := rgD.gl_in (rg := rg) (g := g) (x := 0) (i := i) (by omega)
  rw [x4 i hi]
  obtain ⟨q, j, q1, q2, q3, q4⟩ := n6 ((rg.gl g).getD i 0 - 1) (by omega)
  obtain ⟨_, z2, z3⟩ := n5 q j q1 q2 q3
  rw [q4, Nat.add_sub_cancel] at z2 z3
  rw [z2]
  obtain ⟨r1, r2, r3⟩ := (hF.2.2 g hg).root q1 q2
  rcases z3 with ⟨_, z3⟩ | ⟨p, _, _, z4, _⟩
  · exact (z3 _ r1 r2 r3).2
  · omega
/-- all that is put is boxed -/
theorem VWf.box (V : VWf K1 K2 D G rg g T0 T2 T bl pt by' σ τ) (hF : PGF D m) (hg : g ≤ D.fc) (hV : ∀ g', g' < g → ∃ T0' T2' bl' pt' by'', VWf K1 K2 D G rg g' T0' T2' T bl' pt' by'' σ τ ∧ exT T2'.1.1 T2'.2.1.1 T2' T0) {q i : Nat} (h1 : D.bP g ≤ q) (h2 : q < D.bP (g + 1)) (hi : i < D.np G g q) : 2 ≤ (yG T2).1 (yC T2 (pnC D σ q i)) := by
  have hPf := hF.2.2 g hg
  have hPp := hPf.2.2.1 q h1 h2
  obtain ⟨_, ⟨v1, _⟩, v3, _⟩ := id V
  obtain ⟨_, ⟨x1, x2, x3, x4, x5, x6, x7⟩, xp⟩ := v1 q h1 h2
  unfold pnC
  by_cases k : D.K q = 4 ∨ D.K q = 16 ∨ D.K q = 17
  · rw [if_pos k]
    have hl := hPp.2.2.1 (by omega)
    rcases k with k | k | k
    · rw [k] at hl
      have hl : (D.kd q).length = 2 := hl
      have a0 : (D.kd q)[0]? = some (D.kd q)[0] := List.getElem?_eq_getElem (by omega)
      have a1 : (D.kd q)[1]? = some (D.kd q)[1] := List.getElem?_eq_getElem (by omega)
      have := (x5 _ _ k a0 a1).1
      omega
    · rw [k] at hl
      have hl : (D.kd q).length = 2 := hl
      have a0 : (D.kd q)[0]? = some (D.kd q)[0] := List.getElem?_eq_getElem (by omega)
      have a1 : (D.kd q)[1]? = some (D.kd q)[1] := List.getElem?_eq_getElem (by omega)
      have z := contN.at _ _ _ _ _ hPp.2.1 a1
      have hst := hPp.1.2.2.1
      obtain ⟨_, _, yp⟩ := v1 ((D.kd q)[1]) (by omega) (by omega)
      have := ((yp.2 q 1 h1 h2 a1).2.2.2.1 k rfl _ a0).1
      rw [x7 _ (.inl k) a1]; omega
    · rw [k] at hl
      have hl : (D.kd q).length = 1 := hl
      have a0 : (D.kd q)[0]? = some (D.kd q)[0] := List.getElem?_eq_getElem (by omega)
      have := ((x6 _ a0).2.2.2 k).1
      omega
  · rw [if_neg k]
    unfold pgD.np at hi
    rw [if_neg k] at hi
    by_cases k3 : D.K q = 3 ∧ D.vl q < g
    · rw [if_pos k3] at hi
      obtain ⟨T0', T2', bl', pt', by'', V', hx⟩ := hV _ k3.2
      have hb := V'.gbox hF (by omega) hi
      have hl := V'.XCl hF (by omega) (show D.bk (D.vl q) + 1 + i < _ by omega)
      obtain ⟨SL, im, s1, s2⟩ := v3 q h1 h2 k3.1 k3.2
      have hc := s2 (D.bk (D.vl q) + 1 + i) (by unfold pgD.cn; omega)
      obtain ⟨⟨σ2', τ2', hJ'⟩, _⟩ := V'.1
      have e5 : yC T0 (G.XC (D.vl q) (D.bk (D.vl q) + 1 + i)) = yC T2' (G.XC (D.vl q) (D.bk (D.vl q) + 1 + i)) := hx.2.2.2.2.1 _ hl
      have e7 : (yG T0).1 (yC T2' (G.XC (D.vl q) (D.bk (D.vl q) + 1 + i))) = (yG T2').1 (yC T2' (G.XC (D.vl q) (D.bk (D.vl q) + 1 + i))) := hx.2.2.2.2.2.2.1 _ (hJ'.plc.2.1 _ hl)
      unfold cov at hc
      rw [e5, e7] at hc
      rcases hc with ⟨hc, _⟩ | ⟨_, hc, hw⟩
      · omega
      · obtain ⟨a, b, _, _, b3⟩ := (s1 _ hc).1 (by rw [e7]; exact hb)
        rw [hw]
        have := b3.1
        rw [e7] at this
        omega
    · rw [if_neg k3] at hi; omega
theorem VWf.kbox (V : VWf K1 K2 D G rg g T0 T2 T bl pt by' σ τ) (hF : PGF D m) (hg : g ≤ D.fc) (hV : ∀ g', g' < g → ∃ T0' T2' bl' pt' by'', VWf K1 K2 D G rg g' T0' T2' T bl' pt' by'' σ τ ∧ exT T2'.1.1 T2'.2.1.1 T2' T0) {k : Nat} (h1 : 1 ≤ k) (h2 : k ≤ rg.nK g) : 2 ≤ (yG T2).1 (yC T2 (bl.getD (k - 1) 0)) := by
  obtain ⟨_, _, _, _, n5, n6, _⟩ := id V
  obtain ⟨q, i, q1, q2, q3, q4⟩ := n6 (k - 1) (by omega)
  have := V.box hF hg hV q1 q2 q3
  have h := (n5 q i q1 q2 q3).2.1
  rw [q4, Nat.add_sub_cancel] at h
  rw [h]; exact this
/-- a number -/
theorem VWf.snu (V : VWf K1 K2 D G rg g T0 T2 T bl pt by' σ τ) (hT : TJ0 K1 K2 T σ τ) (hN : T.1.1 ≤ 122000) (hF : PGF D m) (hg : g ≤ D.fc) (hV : ∀ g', g' < g → ∃ T0' T2' bl' pt' by'', VWf K1 K2 D G rg g' T0' T2' T bl' pt' by'' σ τ ∧ exT T2'.1.1 T2'.2.1.1 T2' T0) {k : Nat} (h1 : 1 ≤ k) (h2 : k ≤ rg.nK g) : SNu D rg (tsT T σ) g k := by
  have hb := V.kbox hF hg hV h1 h2
  have hl := V.blk h1 h2
  have hG := V.gr hT
  have hr := V.rt hl
  have hPf := hF.2.2 g hg
  have hkC : (tsT T σ).kC g k = yC T2 (bl.getD (k - 1) 0) := by rw [V.kC hN h1 h2, V.cl hl]
  obtain ⟨⟨⟨σ2, τ2, hJ⟩, _⟩, ⟨v1, v2, _, _⟩, _, ⟨b1, _, _, _, b5⟩, n5, n6, _⟩ := id V
  obtain ⟨q, i, q1, q2, q3, q4⟩ := n6 (k - 1) (by omega)
  obtain ⟨_, z2, z3⟩ := n5 q i q1 q2 q3
  rw [q4, Nat.add_sub_cancel] at z2 z3
  have hne : (yG T2).1 (yC T2 (bl.getD (k - 1) 0)) ≠ 1 := by omega
  refine ⟨?_, fun k' k1 k2 e => ?_, ?_, fun r hr' => ?_⟩
  · show 2 ≤ (tgT T).ki ((tsT T σ).kC g k)
    rw [hkC, (hG _ hr).1]; exact hb
  · rw [hkC, V.kC hN k1 k2, V.cl (V.blk k1 k2)] at e
    have i1 : k' - 1 < (bl.map (yC T2)).length := by rw [List.length_map]; omega
    have i2 : k - 1 < (bl.map (yC T2)).length := by rw [List.length_map]; omega
    have j1 : k' - 1 < bl.length := by omega
    have j2 : k - 1 < bl.length := by omega
    have e' : (bl.map (yC T2))[k' - 1] = (bl.map (yC T2))[k - 1] := by
      rw [List.getElem_map, List.getElem_map]
      rw [List.getD_eq_getElem?_getD, List.getElem?_eq_getElem j1, List.getD_eq_getElem?_getD, List.getElem?_eq_getElem j2] at e
      exact e
    have u1 := List.Nodup.idxOf_getElem b5 (k' - 1) i1
    have u2 := List.Nodup.idxOf_getElem b5 (k - 1) i2
    rw [e', u2] at u1
    omega
  · rcases z3 with ⟨z3, _⟩ | ⟨p, _, _, z3, _⟩ <;> omega
  · rcases z3 with ⟨z3, _⟩ | ⟨p, p1, p2, z3, p3, p4, _⟩
    · omega
    · have ep : p = r := by omega
      subst ep
      have key : ∀ b, Bsh D g σ p b → b < T2.1.1 → ¬ (tgT T).rc (yC T b) ((tsT T σ).kC g k) := fun b hB hbl hc => by
        rw [V.cl hbl, hkC] at hc
        have hc2 := (hG.rc (V.rt hbl) hc).1
        have hq := rc_RQ hJ hne hB hc2
        refine p4 ⟨hq.cl ?_, by rw [← z2]; exact hb⟩
        rw [hJ.plc.1, z2]
      refine ⟨key _ (.inl rfl) (v1 p p1 p2).1, fun v hv => key _ (.inr (.inl ⟨v, hv, rfl⟩)) ?_⟩
      obtain ⟨w1, w2⟩ := hPf.inV hv p1 p2
      exact v2 v w1 w2
/-- where a number is put -/
theorem VWf.pnu (V : VWf K1 K2 D G rg g T0 T2 T bl pt by' σ τ) (hN : T.1.1 ≤ 122000) (hF : PGF D m) (hg : g ≤ D.fc) (hV : ∀ g', g' < g → ∃ T0' T2' bl' pt' by'', VWf K1 K2 D G rg g' T0' T2' T bl' pt' by'' σ τ ∧ exT T2'.1.1 T2'.2.1.1 T2' T0) {q k : Nat} (h1 : D.bP g ≤ q) (h2 : q < D.bP (g + 1)) (hp : PNu D rg g q k) :
    1 ≤ k ∧ k ≤ rg.nK g ∧ (rg.ow g (k - 1) = -1 ∨ ∃ r : Nat, rg.ow g (k - 1) = (r : Int) ∧ D.bP g ≤ r ∧ r < D.bP (g + 1) ∧ spn D r q) ∧ (D.K q = 4 ∨ D.K q = 16 ∨ D.K q = 17 → (tsT T σ).kC g k = (tsT T σ).oC q) := by
  obtain ⟨_, ⟨v1, _⟩, _, _, n5, n6, _⟩ := id V
  have own : ∀ i, i < D.np G g q → k = rg.nu q i → 1 ≤ k ∧ k ≤ rg.nK g ∧ (rg.ow g (k - 1) = -1 ∨ ∃ r : Nat, rg.ow g (k - 1) = (r : Int) ∧ D.bP g ≤ r ∧ r < D.bP (g + 1) ∧ spn D r q) := fun i hi e => by
    obtain ⟨z1, _, z3⟩ := n5 q i h1 h2 hi
    rw [e]
    refine ⟨z1.1, z1.2, ?_⟩
    rcases z3 with ⟨z3, _⟩ | ⟨p, p1, p2, p3, p4, _⟩
    · exact .inl z3
    · exact .inr ⟨p, p3, p1, p2, p4⟩
  rcases hp with ⟨hk, e⟩ | ⟨hk, i, hi, e⟩
  · have hnp : 0 < D.np G g q := by unfold pgD.np; rw [if_pos hk]; omega
    obtain ⟨o1, o2, o3⟩ := own 0 hnp e
    refine ⟨o1, o2, o3, fun _ => ?_⟩
    rw [V.kC hN o1 o2, V.cl (V.blk o1 o2)]
    have := (n5 q 0 h1 h2 hnp).2.1
    rw [← e] at this
    rw [this]
    unfold pnC
    rw [if_pos hk, ← V.cl (v1 q h1 h2).1]; rfl
  · unfold handN at e
    by_cases c : D.vl q = g
    · rw [if_pos c] at e
      rw [c] at hi
      obtain ⟨y1, y2, y3⟩ := rgD.gl_in (rg := rg) (g := g) (x := 0) (i := i) hi
      rw [← e] at y1 y2 y3
      exact ⟨y1, y2, .inl y3, fun k4 => by omega⟩
    · rw [if_neg c] at e
      have hvl := ((hF.2.2 g hg).2.2.1 q h1 h2).2.2.2.1 hk
      have hlt : D.vl q < g := by omega
      obtain ⟨_, _, _, _, _, V', _⟩ := hV _ hlt
      have hng := V'.2.2.2.2.2.2.2.2.2.1.1
      have hnp : i < D.np G g q := by unfold pgD.np; rw [if_neg (by omega), if_pos ⟨hk, hlt⟩, hng]; exact hi
      obtain ⟨o1, o2, o3⟩ := own i hnp e
      exact ⟨o1, o2, o3, fun k4 => by omega⟩
end SPFOF
