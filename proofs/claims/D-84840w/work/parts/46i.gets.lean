/-! REGIONS, THE COMPONENT: the regions that a function gets -/
section GETS
variable {L : Nat} {xs : Nat → Int32} {σ σ' σ0 : tvS} {K1 K2 f fst : Nat} {bl : List Nat} {own : Nat → Int}
/-- region types of functions so far -/
def RGT (gc : Nat) (gl : Nat → Int32) (σ : tvS) : Prop := rd σ 65 13 = i32 (gc : Int) ∧ gc ≤ ln σ 73 ∧ ∀ i, i < gc → rd σ 73 i = gl i
def frGt (f : Nat) (σ σ' : tvS) : Prop := frG [65, 72, 73] [73] σ σ' ∧ (∀ i, i ≠ 13 → rd σ' 65 i = rd σ 65 i) ∧ ∀ i, i ≠ f → rd σ' 72 i = rd σ 72 i
theorem frGt.refl : frGt f σ σ := ⟨frG.refl, fun _ _ => rfl, fun _ _ => rfl⟩
theorem frGt.trans {a b e : tvS} (h : frGt f a b) (g : frGt f b e) : frGt f a e := ⟨h.1.trans g.1, fun i hi => (g.2.1 i hi).trans (h.2.1 i hi), fun i hi => (g.2.2 i hi).trans (h.2.2 i hi)⟩
theorem get_one {gc m : Nat} {gl : Nat → Int32} (hf : f < 21) (hR : ROOM K1 K2 σ) (hK : RGT gc gl σ) (hk : gc < 2048) (h72 : rd σ 72 f = i32 (m : Int)) (x : Int32) (d : Nat) :
    ∃ σ', rn L xs (d + 1) 159 0 [.ref 65, .int (i32 (f : Int)), .int x] [] σ = some (.inl none, σ') ∧ ROOM K1 K2 σ' ∧ RGT (gc + 1) (fun i => if i = gc then x else gl i) σ' ∧ rd σ' 72 f = i32 ((m + 1 : Nat) : Int) ∧ frGt f σ σ' := by
  obtain ⟨h1, h2, h3⟩ := hK
  have hle := hR.le (k := 73) (M := 2048) (by decide)
  have key : ∀ s : tvS, ROOM K1 K2 s → rd s 65 13 = i32 (gc : Int) → gc < ln s 73 → ln s 73 ≤ 2048 → (∀ i, i < gc → rd s 73 i = gl i) → rd s 72 f = i32 (m : Int) → frGt f σ s → ∃ σ', rn L xs (d + 1) 159 29 [.ref 65, .int (i32 (f : Int)), .int x] [] s = some (.inl none, σ') ∧ ROOM K1 K2 σ' ∧ RGT (gc + 1) (fun i => if i = gc then x else gl i) σ' ∧ rd σ' 72 f = i32 ((m + 1 : Nat) : Int) ∧ frGt f σ σ' := by
    intro s hs e hl hl2 hw h72 hfr
    rw [e159_29, e, c_in (by omega) (by omega) (by omega), c_in (by omega) (by omega) (by omega), c_in (by omega) (by omega) (by omega), i32_ixn (by omega), i32_ixn (by omega), h72, i32_up, i32_up]
    refine ⟨_, rfl, hs.wr.wr.wr, ⟨?_, ?_, fun i hi => ?_⟩, wr_self _ _ _ _, hfr.trans ⟨(frG_wr rfl).trans ((frG_wr rfl).trans (frG_wr rfl)), fun i hi => by rw [wr_nek (by decide), wr_nei hi, wr_nek (by decide)], fun i hi => by rw [wr_nei hi, wr_nek (by decide), wr_nek (by decide)]⟩⟩
    · rw [wr_nek (by decide), wr_self]
    · show gc + 1 ≤ ln s 73; omega
    · rw [wr_nek (by decide), wr_nek (by decide)]
      show _ = if i = gc then x else gl i
      by_cases q : i = gc
      · rw [q, wr_self, if_pos rfl]
      · rw [wr_nei q, if_neg q]; exact hw i (by omega)
  rw [e159_0, h1, i32_nat, c2_ne (by omega) (by omega) (by omega) (by omega)]
  by_cases q : gc = ln σ 73
  · rw [c_f (by omega)]
    have e2 : (2 : Int32) * i32 (gc : Int) = i32 ((2 * ln σ 73 : Nat) : Int) := by rw [show (2 : Int32) = i32 2 from rfl, i32_mul, q]; congr 1
    obtain ⟨g1, g2, g3, g4⟩ := hR.grow (k := 73) (M := 2048) (by decide) (by omega) (by decide)
    rw [e2, g1, cond_true, i32_ixn (by omega)]
    exact key _ g2 (by rw [rd_gw, if_neg (by decide)]; exact h1) (by rw [ln_gw, if_pos rfl]; omega) (by rw [ln_gw, if_pos rfl]; omega) (fun i hi => by rw [rd_gw, if_pos rfl, if_pos (by omega)]; exact h3 i hi) (by rw [rd_gw, if_neg (by decide)]; exact h72) ⟨frG_gw rfl rfl, fun i _ => by rw [rd_gw, if_neg (by decide)], fun i _ => by rw [rd_gw, if_neg (by decide)]⟩
  · rw [c_t (by omega)]
    exact key σ hR h1 (by omega) hle h3 h72 frGt.refl
/-- the type of a number of a list -/
def nfT (bl : List Nat) (l : List Nat) (i : Nat) : Nat := bl.getD (l.getD i 0 - 1) 0
theorem get_loop {rf : Nat} {gl : Nat → Int32} (hf : f < 21) (hl60 : bl.length ≤ 60) (hrf : rf + 60 < 2048) (hB : BXL f fst bl σ0) (ho : ∀ k, k < bl.length → rd σ0 82 (fst + k) = i32 (own k) ∧ -1 ≤ own k ∧ own k < 4101) (d : Nat) : ∀ (i k : Nat) (σ : tvS) (v2 v3 v4 : Value), k + i = bl.length → ROOM K1 K2 σ → frGt f σ0 σ → RGT (rf + (nfil (fun k => own k = -1) k).length) (fun q => if q < rf then gl q else i32 (nfT bl (nfil (fun k => own k = -1) k) (q - rf) : Int)) σ → rd σ 72 f = i32 ((nfil (fun k => own k = -1) k).length : Int) →
    ∃ (σ' : tvS) (w2 w3 w4 w5 : Value), rn L xs (d + 2) 163 227 [.ref 74, .int (i32 (f : Int)), v2, v3, v4, .int (i32 ((k + 1 : Nat) : Int))] [] σ = rn L xs (d + 2) 163 270 [.ref 74, .int (i32 (f : Int)), w2, w3, w4, w5] [] σ' ∧ ROOM K1 K2 σ' ∧ frGt f σ0 σ' ∧ RGT (rf + (nfil (fun k => own k = -1) bl.length).length) (fun q => if q < rf then gl q else i32 (nfT bl (nfil (fun k => own k = -1) bl.length) (q - rf) : Int)) σ' ∧ rd σ' 72 f = i32 ((nfil (fun k => own k = -1) bl.length).length : Int) := by
  obtain ⟨⟨b1, b2, b3, b4, b5⟩, b6, b7⟩ := id hB
  intro i
  induction i with
  | zero =>
    intro k σ v2 v3 v4 e hR w hK h72
    have e : k = bl.length := by omega
    subst e
    refine ⟨σ, v2, v3, v4, .int (i32 ((bl.length + 1 : Nat) : Int)), ?_, hR, w, hK, h72⟩
    rw [e163_227 (d + 1), c_in (by omega) (by omega) (by omega), i32_ixn (by omega), w.1.1 80 rfl, b2, c2_gt (by omega) (by omega) (by omega) (by omega), c_t (by omega)]
  | succ i ih =>
    intro k σ v2 v3 v4 e hR w hK h72
    have hlen := nfil_len (mk := fun k => own k = -1) k
    obtain ⟨o1, o2, o3⟩ := ho k (by omega)
    have l82 : ln σ 82 = ln σ0 81 := by rw [(w.1.2.2 82 rfl).1]; exact b7
    have l81 : ln σ 81 = ln σ0 81 := (w.1.2.2 81 rfl).1
    have ei : i32 (fst : Int) + i32 ((k + 1 : Nat) : Int) - 1 = i32 ((fst + k : Nat) : Int) := by
      rw [show (1 : Int32) = i32 1 from rfl, i32_add, i32_sub]; congr 1; omega
    have p174 : rn L xs (d + 1) 174 0 [.ref 74, .int (i32 (f : Int)), .int (i32 ((k + 1 : Nat) : Int))] [] σ = some (.inl (some (.int (i32 (own k)))), σ) := by
      rw [e174_0, c_in (by omega) (by omega) (by omega), i32_ixn (by omega), w.1.1 79 rfl, b1, ei, c_in (by omega) (by rw [l82]; omega) (by rw [l82]; omega), i32_ixn (by omega), w.1.1 82 rfl, o1]
    have p168 : rn L xs (d + 1) 168 0 [.ref 74, .int (i32 (f : Int)), .int (i32 ((k + 1 : Nat) : Int))] [] σ = some (.inl (some (.int (i32 (bl.getD k 0 : Int)))), σ) := by
      rw [e168_0, c_in (by omega) (by omega) (by omega), i32_ixn (by omega), w.1.1 79 rfl, b1, ei, c_in (by omega) (by rw [l81]; omega) (by rw [l81]; omega), i32_ixn (by omega), w.1.1 81 rfl, b5 k (by omega)]
    have head : rn L xs (d + 2) 163 227 [.ref 74, .int (i32 (f : Int)), v2, v3, v4, .int (i32 ((k + 1 : Nat) : Int))] [] σ = cond (decide (¬ own k = -1)) (rn L xs (d + 2) 163 264 [.ref 74, .int (i32 (f : Int)), (dj v2), (dj v3), (dj v4), .int (i32 ((k + 1 : Nat) : Int))] [] σ) (bV (rn L xs (d + 1) 159 0 [.ref 65, .int (i32 (f : Int)), .int (i32 (bl.getD k 0 : Int))] [] σ) (fun s5 => rn L xs (d + 2) 163 264 [.ref 74, .int (i32 (f : Int)), (dj (dj (dj v2))), (dj (dj (dj v3))), (dj (dj (dj v4))), .int (i32 ((k + 1 : Nat) : Int))] [] s5) X0) := by
      rw [e163_227 (d + 1), c_in (by omega) (by omega) (by omega), i32_ixn (by omega), w.1.1 80 rfl, b2, c2_gt (by omega) (by omega) (by omega) (by omega), c_f (by omega), bI_ok p174, i32_raw, c2_ne (by omega) (by omega) (by omega) (by omega), bI_ok p168]
    by_cases g : own k = -1
    · obtain ⟨s1, a1, a2, a3, a4, a5⟩ := get_one (L := L) (xs := xs) hf hR hK (by omega) h72 (i32 (bl.getD k 0 : Int)) d
      have hy := nfil_y (mk := fun k => own k = -1) g
      obtain ⟨σ', w2, w3, w4, w5, z1, z2, z3, z4, z5⟩ := ih (k + 1) s1 (dj (dj (dj v2))) (dj (dj (dj v3))) (jk (dj (dj (dj v4)))) (by omega) a2 (w.trans a5) (by
        rw [hy, List.length_append]
        refine ⟨by rw [show rf + ((nfil (fun k => own k = -1) k).length + [k + 1].length) = rf + (nfil (fun k => own k = -1) k).length + 1 from rfl]; exact a3.1, a3.2.1, fun q hq => ?_⟩
        have hq : q < rf + (nfil (fun k => own k = -1) k).length + 1 := hq
        rw [a3.2.2 q hq]
        show (if q = rf + (nfil (fun k => own k = -1) k).length then i32 (bl.getD k 0 : Int) else if q < rf then gl q else i32 (nfT bl (nfil (fun k => own k = -1) k) (q - rf) : Int)) = (if q < rf then gl q else i32 (nfT bl (nfil (fun k => own k = -1) k ++ [k + 1]) (q - rf) : Int))
        unfold nfT
        by_cases g : q = rf + (nfil (fun k => own k = -1) k).length
        · rw [if_pos g, if_neg (by omega), g, show rf + (nfil (fun k => own k = -1) k).length - rf = (nfil (fun k => own k = -1) k).length by omega]
          have e3 : (nfil (fun k => own k = -1) k ++ [k + 1]).getD (nfil (fun k => own k = -1) k).length 0 = k + 1 := by
            rw [List.getD_eq_getElem?_getD, List.getElem?_append_right (Nat.le_refl _), Nat.sub_self]; rfl
          rw [e3, Nat.add_sub_cancel]
        · rw [if_neg g]
          by_cases g2 : q < rf
          · rw [if_pos g2, if_pos g2]
          · have e3 : (nfil (fun k => own k = -1) k ++ [k + 1]).getD (q - rf) 0 = (nfil (fun k => own k = -1) k).getD (q - rf) 0 := by
              rw [List.getD_eq_getElem?_getD, List.getD_eq_getElem?_getD, List.getElem?_append_left (by omega)]
            rw [if_neg g2, if_neg g2, e3]) (by rw [hy, List.length_append]; exact a4)
      refine ⟨σ', w2, w3, w4, w5, ?_, z2, z3, z4, z5⟩
      rw [head, decide_eq_false (fun h => h g), cond_false, bV_ok a1, e163_264, i32_up]
      exact z1
    · have hn := nfil_n (mk := fun k => own k = -1) g
      obtain ⟨σ', w2, w3, w4, w5, z1, z2, z3, z4, z5⟩ := ih (k + 1) σ (dj v2) (dj v3) (jk (dj v4)) (by omega) hR w (by rw [hn]; exact hK) (by rw [hn]; exact h72)
      refine ⟨σ', w2, w3, w4, w5, ?_, z2, z3, z4, z5⟩
      rw [head, decide_eq_true g, cond_true, e163_264, i32_up]
      exact z1
end GETS
