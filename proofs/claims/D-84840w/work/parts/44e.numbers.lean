/-! REGIONS, THE COMPONENT: all that is put is numbered -/
section NUMSC
variable {L : Nat} {xs : Nat → Int32} {σ σ' : tvS}
/-- one more box, if there is none of its like -/
def bxA (c : Nat → Nat) (bl : List Nat) (x : Nat) : List Nat := if c x ∈ bl.map c then bl else bl ++ [x]
/-- so many boxes, and their list -/
def BXL (f fst : Nat) (bl : List Nat) (σ : tvS) : Prop := BOX f fst bl.length (fun i => bl.getD i 0) σ ∧ rd σ 74 14 = i32 ((fst + bl.length : Nat) : Int) ∧ ln σ 82 = ln σ 81
def frB (f fst : Nat) (σ σ' : tvS) : Prop := frG [52, 74, 80, 81, 82] [81, 82] σ σ' ∧ (∀ i, i ≠ 14 → rd σ' 74 i = rd σ 74 i) ∧ (∀ i, i < fst → rd σ' 81 i = rd σ 81 i ∧ rd σ' 82 i = rd σ 82 i) ∧ ∀ g, g ≠ f → rd σ' 80 g = rd σ 80 g
theorem frB.trans {f fst : Nat} {a b e : tvS} (h : frB f fst a b) (g : frB f fst b e) : frB f fst a e := ⟨h.1.trans g.1, fun i hi => (g.2.1 i hi).trans (h.2.1 i hi), fun i hi => ⟨(g.2.2.1 i hi).1.trans (h.2.2.1 i hi).1, (g.2.2.1 i hi).2.trans (h.2.2.1 i hi).2⟩, fun i hi => (g.2.2.2 i hi).trans (h.2.2.2 i hi)⟩
theorem frW.B {f fst : Nat} (w : frW [52] σ σ') : frB f fst σ σ' := ⟨(w.G [81, 82]).mono (fun k hk => by
    have hk : (Nat.beq k 52 || inL [74, 80, 81, 82] k) = false := hk
    rw [Bool.or_eq_false_iff] at hk
    show (Nat.beq k 52 || false) = false
    rw [hk.1]; rfl) (fun k hk => hk), fun i _ => w.1 74 rfl i, fun i _ => ⟨w.1 81 rfl i, w.1 82 rfl i⟩, fun i _ => w.1 80 rfl i⟩
theorem getD_map_mem {c : Nat → Nat} {bl : List Nat} {t : Nat} : t ∈ bl.map c ↔ ∃ i, i < bl.length ∧ c (bl.getD i 0) = t := by
  rw [List.mem_map]
  constructor
  · rintro ⟨x, h1, h2⟩
    obtain ⟨i, hi⟩ := List.getElem?_of_mem h1
    refine ⟨i, ?_, ?_⟩
    · apply Classical.byContradiction
      intro k
      rw [List.getElem?_eq_none (by omega)] at hi; cases hi
    · rw [List.getD_eq_getElem?_getD, hi]; exact h2
  · rintro ⟨i, h1, h2⟩
    refine ⟨bl.getD i 0, ?_, h2⟩
    rw [List.getD_eq_getElem?_getD, List.getElem?_eq_getElem h1]
    exact List.getElem_mem _
/-- all from i on, but no more than one too many -/
def bxF (c pe : Nat → Nat) : Nat → Nat → List Nat → List Nat
  | 0, _, bl => bl
  | j + 1, i, bl => if 60 < bl.length then bl else bxF c pe j (i + 1) (bxA c bl (pe i))
theorem numbers_loop {K1 K2 N f fst n : Nat} {C : tG} {c pe : Nat → Nat} (hf : f < 21) (hN : N ≤ 1000000) (hfst : fst ≤ 1300) (hn : n < 32768) (hpe : ∀ i, i < n → pe i < N) (d : Nat) : ∀ (j i : Nat) (bl : List Nat) (σ : tvS) (v2 : Value), i + j = n → TC N C c σ → ROOM K1 K2 σ → QP n pe σ → BXL f fst bl σ → (∀ x, x ∈ bl → x < N) → bl.length ≤ 61 →
    ∃ σ', rn L xs (d + 3) 166 19 [.ref 74, .int (i32 (f : Int)), v2, .int (i32 (i : Int))] [] σ = some (.inl none, σ') ∧ TC N C c σ' ∧ ROOM K1 K2 σ' ∧ QP n pe σ' ∧ BXL f fst (bxF c pe j i bl) σ' ∧ frB f fst σ σ' := by
  intro j
  induction j with
  | zero =>
    intro i bl σ v2 e hT hR hQ hB hbl hl
    refine ⟨σ, ?_, hT, hR, hQ, hB, frW.refl.B⟩
    rw [e166_19 (d + 2), hQ.1, c2_ge (by omega) (by omega) (by omega) (by omega), c_t (by omega), e166_153]
  | succ j ih =>
    intro i bl σ v2 e hT hR hQ hB hbl hl
    obtain ⟨⟨b1, b2, b3, b4, b5⟩, b6, b7⟩ := id hB
    by_cases q : 60 < bl.length
    · refine ⟨σ, ?_, hT, hR, hQ, by unfold bxF; rw [if_pos q]; exact hB, frW.refl.B⟩
      rw [e166_19 (d + 2), hQ.1, c2_ge (by omega) (by omega) (by omega) (by omega), c_f (by omega), c_in (by omega) (by omega) (by omega), i32_ixn (by omega), b2, show (60 : Int32) = i32 60 from rfl, c2_gt (by omega) (by omega) (by omega) (by omega), c_t (by omega), e166_153]
    · have hbx : ∀ k, k < bl.length → bl.getD k 0 < N := fun k hk => by
        apply hbl
        rw [List.getD_eq_getElem?_getD, List.getElem?_eq_getElem hk]
        exact List.getElem_mem _
      obtain ⟨s1, res, a1, a2, a3, a4, a5⟩ := number_c (L := L) (xs := xs) (f := f) (fst := fst) (cnt := bl.length) hf hbx hN (hpe i (by omega)) hT hR hB.1 d jv jv
      have hQ1 : QP n pe s1 := ⟨(a5.1 74 rfl 7).trans hQ.1, by rw [a5.ln]; exact hQ.2.1, by rw [a5.ln, a5.ln]; exact hQ.2.2.1, fun k hk => (a5.1 75 rfl k).trans (hQ.2.2.2 k hk)⟩
      have hB1 : BXL f fst bl s1 := ⟨hB.1.W a5, (a5.1 74 rfl 14).trans b6, by rw [a5.ln, a5.ln]; exact b7⟩
      have hq75 := hQ.2.1
      have hl75 := hR.le (k := 75) (M := 32768) (by decide)
      have hst : rn L xs (d + 3) 166 19 [.ref 74, .int (i32 (f : Int)), v2, .int (i32 (i : Int))] [] σ = cond (pv_c2 .eq res (i32 (-1))) (rn L xs (d + 3) 166 56 [.ref 74, .int (i32 (f : Int)), (dj v2), .int (i32 (i : Int))] [] s1) (rn L xs (d + 3) 166 147 [.ref 74, .int (i32 (f : Int)), (dj v2), .int (i32 (i : Int))] [] s1) := by
        rw [e166_19 (d + 2), hQ.1, c2_ge (by omega) (by omega) (by omega) (by omega), c_f (by omega), c_in (by omega) (by omega) (by omega), i32_ixn (by omega), b2, show (60 : Int32) = i32 60 from rfl, c2_gt (by omega) (by omega) (by omega) (by omega), c_f (by omega), c_in (by omega) (by omega) (by omega), i32_ixn (by omega), hQ.2.2.2 i (by omega), bI_ok a1, i32_raw]
      rw [hst]
      unfold bxF
      rw [if_neg q]
      rcases a2 with ⟨r1, r2⟩ | ⟨k, k1, k2, k3, k4⟩
      · subst r1
        have hnm : c (pe i) ∉ bl.map c := fun hm => by
          obtain ⟨k, k1, k2⟩ := getD_map_mem.mp hm
          exact r2 k k1 k2
        rw [c2_eq (by omega) (by omega) (by omega) (by omega), c_t (by omega)]
        have eA : bxA c bl (pe i) = bl ++ [pe i] := by unfold bxA; rw [if_neg hnm]
        rw [eA]
        -- with room for one more
        have key : ∀ (s : tvS) (w : Value), TC N C c s → ROOM K1 K2 s → QP n pe s → BXL f fst bl s → fst + bl.length < ln s 81 → frB f fst σ s → ∃ σ', rn L xs (d + 3) 166 102 [.ref 74, .int (i32 (f : Int)), w, .int (i32 (i : Int))] [] s = some (.inl none, σ') ∧ TC N C c σ' ∧ ROOM K1 K2 σ' ∧ QP n pe σ' ∧ BXL f fst (bxF c pe j (i + 1) (bl ++ [pe i])) σ' ∧ frB f fst σ σ' := by
          intro s w hTs hRs hQs hBs hrm hfr
          obtain ⟨⟨d1, d2, d3, d4, d5⟩, d6, d7⟩ := id hBs
          have hq75s := hQs.2.1
          have hl75s := hRs.le (k := 75) (M := 32768) (by decide)
          have w2 : frB f fst s (wr (wr (wr (wr s 81 (fst + bl.length) (i32 (pe i : Int))) 82 (fst + bl.length) (i32 (-1))) 74 14 (i32 ((fst + bl.length + 1 : Nat) : Int))) 80 f (i32 ((bl.length + 1 : Nat) : Int))) := ⟨((frG_wr rfl).trans (frG_wr rfl)).trans ((frG_wr rfl).trans (frG_wr rfl)), fun k hk => by rw [wr_nek (by decide), wr_nei hk, wr_nek (by decide), wr_nek (by decide)], fun k hk => ⟨by rw [wr_nek (by decide), wr_nek (by decide), wr_nek (by decide), wr_nei (by omega)], by rw [wr_nek (by decide), wr_nek (by decide), wr_nei (by omega), wr_nek (by decide)]⟩, fun k hk => by rw [wr_nei hk, wr_nek (by decide), wr_nek (by decide), wr_nek (by decide)]⟩
          have hT2 : TC N C c (wr (wr (wr (wr s 81 (fst + bl.length) (i32 (pe i : Int))) 82 (fst + bl.length) (i32 (-1))) 74 14 (i32 ((fst + bl.length + 1 : Nat) : Int))) 80 f (i32 ((bl.length + 1 : Nat) : Int))) := hTs
          have hQ2 : QP n pe (wr (wr (wr (wr s 81 (fst + bl.length) (i32 (pe i : Int))) 82 (fst + bl.length) (i32 (-1))) 74 14 (i32 ((fst + bl.length + 1 : Nat) : Int))) 80 f (i32 ((bl.length + 1 : Nat) : Int))) := hQs
          have hB2 : BXL f fst (bl ++ [pe i]) (wr (wr (wr (wr s 81 (fst + bl.length) (i32 (pe i : Int))) 82 (fst + bl.length) (i32 (-1))) 74 14 (i32 ((fst + bl.length + 1 : Nat) : Int))) 80 f (i32 ((bl.length + 1 : Nat) : Int))) := by
            unfold BXL
            rw [List.length_append]
            refine ⟨⟨d1, wr_self _ _ _ _, by show fst + (bl.length + 1) ≤ ln s 81; omega, d4, fun k hk => ?_⟩, by rw [wr_nek (by decide), wr_self]; rfl, d7⟩
            rw [wr_nek (by decide), wr_nek (by decide), wr_nek (by decide)]
            have hk : k < bl.length + 1 := hk
            by_cases e0 : k = bl.length
            · rw [e0, wr_self]
              show i32 (pe i : Int) = i32 (((bl ++ [pe i]).getD bl.length 0 : Nat) : Int)
              rw [List.getD_eq_getElem?_getD, List.getElem?_append_right (Nat.le_refl _), Nat.sub_self]; rfl
            · rw [wr_nei (by omega), d5 k (by omega)]
              show i32 ((bl.getD k 0 : Nat) : Int) = i32 (((bl ++ [pe i]).getD k 0 : Nat) : Int)
              rw [List.getD_eq_getElem?_getD, List.getD_eq_getElem?_getD, List.getElem?_append_left (by omega)]
          obtain ⟨σ', z1, z2, z3, z4, z5, z6⟩ := ih (i + 1) (bl ++ [pe i]) _ (jk w) (by omega) hT2 hRs.wr.wr.wr.wr hQ2 hB2 (fun x hx => by
            rcases List.mem_append.mp hx with h | h
            · exact hbl x h
            · rw [List.mem_singleton.mp h]; exact hpe i (by omega)) (by rw [List.length_append]; show bl.length + 1 ≤ 61; omega)
          refine ⟨σ', ?_, z2, z3, z4, z5, hfr.trans (w2.trans z6)⟩
          rw [e166_102 (d + 2), c_in (by omega) (by omega) (by omega), d6, c_in (by omega) (by omega) (by omega), c_in (by omega) (by omega) (by rw [d7]; omega), c_in (by omega) (by omega) (by omega), c_in (by omega) (by omega) (by omega), i32_ixn (by omega), i32_ixn (by omega), i32_ixn (by omega), hQs.2.2.2 i (by omega), d2, i32_up, i32_up, i32_raw, e166_147 (d + 2), i32_up]
          exact z1
        rw [e166_56 (d + 2), hB1.2.1, i32_nat, c2_ne (by omega) (by omega) (by have := hB1.1.2.2.2.1; omega) (by have := hB1.1.2.2.2.1; omega)]
        have hl81 := hB1.1.2.2.2.1
        by_cases g : fst + bl.length = ln s1 81
        · rw [c_f (by omega)]
          have e2 : (2 : Int32) * i32 ((fst + bl.length : Nat) : Int) = i32 ((2 * ln s1 81 : Nat) : Int) := by rw [show (2 : Int32) = i32 2 from rfl, i32_mul, g]; congr 1
          obtain ⟨g1, g2, g3, g4⟩ := a4.grow (k := 81) (M := 2048) (by decide) (by omega) (by decide)
          rw [e2, g1, cond_true, i32_ixn (by omega), e166_85 (d + 2)]
          have r14 : rd (gw s1 81 (2 * ln s1 81)) 74 14 = i32 ((fst + bl.length : Nat) : Int) := by rw [rd_gw, if_neg (by decide)]; exact hB1.2.1
          have l82 : ln (gw s1 81 (2 * ln s1 81)) 82 = ln s1 81 := by rw [ln_gw, if_neg (by decide)]; exact hB1.2.2
          obtain ⟨k1, k2, k3, k4⟩ := g2.grow (k := 82) (M := 2048) (by decide) (by rw [l82]; omega) (by decide)
          rw [l82] at k1 k2
          rw [r14, e2, k1, cond_true, i32_ixn (by omega)]
          have w3 : frB f fst s1 (gw (gw s1 81 (2 * ln s1 81)) 82 (2 * ln s1 81)) := ⟨(frG_gw rfl rfl).trans (frG_gw rfl rfl), fun k _ => by rw [rd_gw, if_neg (by decide), rd_gw, if_neg (by decide)], fun k hk => ⟨by rw [rd_gw, if_neg (by decide), rd_gw, if_pos rfl, if_pos (by omega)], by rw [rd_gw, if_pos rfl, l82, if_pos (by omega), rd_gw, if_neg (by decide)]⟩, fun k _ => by rw [rd_gw, if_neg (by decide), rd_gw, if_neg (by decide)]⟩
          have w4 : frT [82, 81] [82, 81] [] s1 (gw (gw s1 81 (2 * ln s1 81)) 82 (2 * ln s1 81)) := ⟨(frG_gw rfl rfl).trans (frG_gw rfl rfl), fun k _ => by rw [rd_gw, if_neg (by decide), rd_gw, if_neg (by decide)]⟩
          refine key _ _ (a3.T w4 rfl ⟨rfl, rfl, rfl, rfl⟩ (fun j h1 h2 => by
              have : j = 51 ∨ j = 52 ∨ j = 53 ∨ j = 54 ∨ j = 55 ∨ j = 56 ∨ j = 57 ∨ j = 58 := by omega
              rcases this with h | h | h | h | h | h | h | h <;> subst h <;> rfl)) k2 ⟨by rw [w4.rd (j := 74) rfl]; exact hQ1.1, by rw [(w4.1.2.2 75 rfl).1]; exact hQ1.2.1, by rw [(w4.1.2.2 75 rfl).1, (w4.1.2.2 76 rfl).1]; exact hQ1.2.2.1, fun k hk => by rw [w4.rd (j := 75) rfl]; exact hQ1.2.2.2 k hk⟩ ⟨⟨by rw [w4.rd (j := 79) rfl]; exact hB1.1.1, by rw [w4.rd (j := 80) rfl]; exact hB1.1.2.1, by rw [ln_gw, if_neg (by decide), ln_gw, if_pos rfl]; omega, by rw [ln_gw, if_neg (by decide), ln_gw, if_pos rfl]; omega, fun k hk => ?_⟩, by rw [w4.rd (j := 74) rfl]; exact hB1.2.1, by rw [ln_gw, if_pos rfl, ln_gw, if_neg (by decide), ln_gw, if_pos rfl]⟩ (by rw [ln_gw, if_neg (by decide), ln_gw, if_pos rfl]; omega) (a5.B.trans w3)
          rw [rd_gw, if_neg (by decide), rd_gw, if_pos rfl, if_pos (by omega)]
          exact hB1.1.2.2.2.2 k hk
        · rw [c_t (by omega)]
          exact key s1 (dj v2) a3 a4 hQ1 hB1 (by have := hB1.1.2.2.1; omega) a5.B
      · subst k2
        rw [c2_eq (by omega) (by omega) (by omega) (by omega), c_f (by omega), e166_147 (d + 2), i32_up]
        have eA : bxA c bl (pe i) = bl := by
          unfold bxA
          rw [if_pos (getD_map_mem.mpr ⟨k, k1, k3⟩)]
        rw [eA]
        obtain ⟨σ', z1, z2, z3, z4, z5, z6⟩ := ih (i + 1) bl s1 (jk (dj v2)) (by omega) a3 a4 hQ1 hB1 hbl hl
        exact ⟨σ', z1, z2, z3, z4, z5, a5.B.trans z6⟩
end NUMSC
