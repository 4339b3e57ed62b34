/-! REGIONS, THE COMPONENT: from the start of a function to its numbered puts -/
section NUMC
variable {L : Nat} {xs : Nat → Int32} {σ σ' σ0 τ : tvS} {D : pgD} {Gs : sgD} {m f : Nat}
variable {K1 K2 N H S : Nat} {C : tG} {c : Nat → Nat} {h : Nat → Nat → Prop}
theorem CT.num (hT : CT K1 K2 N C c h H S σ) {S' T' : List Nat} (w : frG S' T' σ σ') (hS : (([50, 51, 53, 54, 55, 56, 57, 59, 60] : List Nat).all fun j => !inL S' j) = true) (hTT : (([51, 52, 53, 54, 55, 56, 57, 58, 59, 60] : List Nat).all fun j => !inL T' j) = true) (hl : TC N C c σ') (hr : ROOM K1 K2 σ') : CT K1 K2 N C c h H S σ' := by
  obtain ⟨hl', hv, h1, h2, h3, h4, h5, h6, h7, h8⟩ := hT
  have o := fun j hj => inL_off (S := [50, 51, 53, 54, 55, 56, 57, 59, 60]) (S' := S') hS j hj
  have o2 := fun j hj => inL_off (S := [51, 52, 53, 54, 55, 56, 57, 58, 59, 60]) (S' := T') hTT j hj
  refine ⟨hl', hv, hl, h2.fr w (w.1 50 (o 50 rfl) 11) ⟨o 55 rfl, o 56 rfl, o 59 rfl, o 60 rfl⟩ ⟨o2 59 rfl, o2 60 rfl⟩, h3, ⟨by rw [w.1 50 (o 50 rfl)]; exact h4.1, fun x hx => by rw [w.1 57 (o 57 rfl)]; exact h4.2 x hx⟩, hr, h6, h7, h8⟩
theorem n5176 {j : Nat} (h1 : 51 ≤ j) (h2 : j ≤ 58) : inL [75, 76] j = false := by
  have : j = 51 ∨ j = 52 ∨ j = 53 ∨ j = 54 ∨ j = 55 ∨ j = 56 ∨ j = 57 ∨ j = 58 := by omega
  rcases this with h | h | h | h | h | h | h | h <;> subst h <;> rfl
/-- boxes so far: how many, and room for more -/
def BXS (fst : Nat) (σ : tvS) : Prop := rd σ 74 14 = i32 (fst : Int) ∧ fst ≤ ln σ 81 ∧ ln σ 82 = ln σ 81
def FNU : List Nat := [52, 74, 75, 76, 77, 78, 79, 80, 81, 82]
def frNu (σ σ' : tvS) : Prop := frG FNU [75, 76, 81, 82] σ σ' ∧ (∀ i, i ≠ 7 → i ≠ 14 → rd σ' 74 i = rd σ 74 i)
theorem frNu.trans {a b e : tvS} (h : frNu a b) (g : frNu b e) : frNu a e := ⟨h.1.trans g.1, fun i h1 h2 => (g.2 i h1 h2).trans (h.2 i h1 h2)⟩
theorem frNu.rd (h : frNu σ σ') {j : Nat} (hj : inL FNU j = false) (i : Nat) : rd σ' j i = rd σ j i := h.1.1 j hj i
/-- room, and tables that grow together are of one length -/
def RLQ (K1 K2 : Nat) (σ : tvS) : Prop := RMQ K1 K2 σ ∧ ln σ 60 = ln σ 59 ∧ ln σ 76 = ln σ 75 ∧ ln σ 82 = ln σ 81
theorem CT.rlq {K1 K2 N H S : Nat} {C : tG} {c : Nat → Nat} {h : Nat → Nat → Prop} {s : tvS} (hT : CT K1 K2 N C c h H S s) (h1 : ln s 76 = ln s 75) (h2 : ln s 82 = ln s 81) : RLQ K1 K2 s := by
  obtain ⟨_, _, hTC, hHO, _, _, hR, _⟩ := hT
  exact ⟨⟨hR, hTC.2.2.2.1⟩, hHO.2.2.1, h1, h2⟩
theorem numbers_c {n0 fst l : Nat} {pe0 : Nat → Nat} (hF : PGF D m) (hf : f ≤ D.fc) (hR : PGR D σ τ) (hK2 : 6 ≤ K2) (hty : TYc D f N σ) (hcl : CLc D Gs f N σ) (hT : CT K1 K2 N C c h H S σ) (hQ : QP n0 pe0 σ) (hpe0 : ∀ i, i < n0 → pe0 i < N) (hB : BXS fst σ) (hfst : fst ≤ 1300) (hn : n0 + (puL D Gs f (D.bP (f + 1) - D.bP f)).length < 32768) (h43 : rd σ 43 f = i32 (l : Int)) (hl : l < 3001) (d : Nat) (v2 v3 v4 v5 : Value) :
    ∃ (bl : List Nat), bl = bxL c ((puL D Gs f (D.bP (f + 1) - D.bP f)).map (fun e => pnC D σ e.1 e.2)) [] ∧
    ((60 < bl.length ∧ ∃ s : tvS, rn L xs (d + 4) 163 0 [.ref 74, .int (i32 (f : Int)), v2, v3, v4, v5] [] σ = some (.inr (1016, (rm s).1), cFlt s 6 (rd σ 13 l)) ∧ RLQ K1 K2 s ∧ frNu σ s) ∨
     (bl.length ≤ 60 ∧ ∃ (σ' : tvS) (pe : Nat → Nat) (w3 w4 w5 : Value), rn L xs (d + 4) 163 0 [.ref 74, .int (i32 (f : Int)), v2, v3, v4, v5] [] σ = rn L xs (d + 4) 163 175 [.ref 74, .int (i32 (f : Int)), .int (i32 (n0 : Int)), w3, w4, w5] [] σ' ∧ CT K1 K2 N C c h H S σ' ∧ QP (n0 + (puL D Gs f (D.bP (f + 1) - D.bP f)).length) pe σ' ∧ (∀ i, i < n0 + (puL D Gs f (D.bP (f + 1) - D.bP f)).length → pe i < N) ∧ (∀ i, i < n0 → pe i = pe0 i) ∧ (∀ (i : Nat) (e : Nat × Nat), (puL D Gs f (D.bP (f + 1) - D.bP f))[i]? = some e → pe (n0 + i) = pnC D σ e.1 e.2) ∧ BXL f fst bl σ' ∧ (∀ p, D.bP f ≤ p → p ≤ D.bP (f + 1) → rd σ' 77 p = i32 (frO D Gs f n0 p : Int) ∧ rd σ' 78 p = i32 (svO D f p : Int)) ∧ frNu σ σ' ∧ (∀ i, i < fst → rd σ' 81 i = rd σ 81 i ∧ rd σ' 82 i = rd σ 82 i) ∧ ∀ g, g ≠ f → rd σ' 79 g = rd σ 79 g ∧ rd σ' 80 g = rd σ 80 g)) := by
  have hb4 := hF.1
  have hbl := (hF.le (D.fc + 1 - (f + 1)) (f + 1) (by omega))
  have hPf := hF.2.2 f hf
  have hff := hR.1 f hf
  have hlt := hPf.1.1
  obtain ⟨PL, ePL⟩ : ∃ PL, PL = puL D Gs f (D.bP (f + 1) - D.bP f) := ⟨_, rfl⟩
  have hTC : TC N C c σ := by obtain ⟨_, _, h1, _⟩ := hT; exact h1
  have hRm : ROOM K1 K2 σ := by obtain ⟨_, _, _, _, _, _, h5, _⟩ := hT; exact h5
  have hN := hTC.lt hRm
  -- all parts
  obtain ⟨s1, pe, w5, a1, a2⟩ := put_loop (L := L) (xs := xs) (K1 := K1) (K2 := K2) (pe0 := pe0) hF hf hR hty hcl hn (i32 (n0 : Int)) (d + 1) (D.bP (f + 1) - D.bP f) 0 σ pe0 v5 (by omega) ⟨hRm, hQ, frPu.refl, fun _ _ => rfl, fun i e he => (by cases he), fun q hq => by omega⟩
  obtain ⟨b1, b2, b3, b4, b5, b6⟩ := a2
  rw [← ePL] at b2 b5 hn ⊢
  have hpe : ∀ i, i < n0 + PL.length → pe i < N := fun i hi => by
    by_cases q : i < n0
    · rw [b4 i q]; exact hpe0 i q
    · obtain ⟨e, he⟩ : ∃ e, PL[i - n0]? = some e := ⟨PL[i - n0]'(by omega), List.getElem?_eq_getElem (by omega)⟩
      have := b5 (i - n0) e he
      rw [show n0 + (i - n0) = i by omega] at this
      rw [this]
      have hm := puL_mem _ e (by rw [← ePL]; exact List.mem_of_getElem? he)
      unfold pnC
      by_cases q1 : D.K e.1 = 4 ∨ D.K e.1 = 16 ∨ D.K e.1 = 17
      · rw [if_pos q1]; exact (hty.1 e.1 hm.1 (by omega)).2
      · have hnp := hm.2.2
        unfold pgD.np at hnp
        rw [if_neg q1] at hnp ⊢
        by_cases q3 : D.K e.1 = 3 ∧ D.vl e.1 < f
        · rw [if_pos q3] at hnp
          obtain ⟨n1, c1, c2, c3, c4, c5⟩ := hcl.2 e.1 hm.1 (by omega) q3.1 q3.2
          have hcn : D.cn Gs e.1 = D.bk (D.vl e.1) + 1 + Gs.ng (D.vl e.1) := rfl
          exact (c3 _ (by omega)).2
        · rw [if_neg q3] at hnp; omega
  -- the end of the parts, and of the numbers of boxes
  obtain ⟨s2, es2⟩ : ∃ s2, s2 = wr (wr s1 77 (D.bP (f + 1)) (i32 ((n0 + PL.length : Nat) : Int))) 78 (D.bP (f + 1)) (i32 (slN D f (D.bP (f + 1) - D.bP f) : Int)) := ⟨_, rfl⟩
  obtain ⟨s3, es3⟩ : ∃ s3, s3 = wr (wr s2 79 f (i32 (fst : Int))) 80 f 0 := ⟨_, rfl⟩
  have w12 : frPu s1 s2 := by rw [es2]; exact (frPu_wr (.inl rfl)).trans (frPu_wr (.inr rfl))
  have w02 : frPu σ s2 := b3.trans w12
  have k14 : rd s2 74 14 = i32 (fst : Int) := (w02.2 14 (by decide)).trans hB.1
  have w23 : frG [79, 80] [] s2 s3 := by rw [es3]; exact (frG_wr rfl).trans (frG_wr rfl)
  have r3 : ∀ j i, j ≠ 79 → j ≠ 80 → rd s3 j i = rd s2 j i := fun j i h1 h2 => by rw [es3, wr_nek h2, wr_nek h1]
  have l3 : ∀ j, ln s3 j = ln s2 j := fun j => by rw [es3]; rfl
  have l2 : ∀ j, ln s2 j = ln s1 j := fun j => by rw [es2]; rfl
  have l81 : ln s3 81 = ln σ 81 := by rw [l3, l2]; exact (b3.1.2.2 81 rfl).1
  have l82 : ln s3 82 = ln σ 82 := by rw [l3, l2]; exact (b3.1.2.2 82 rfl).1
  have hR3 : ROOM K1 K2 s3 := by rw [es3, es2]; exact b1.wr.wr.wr.wr
  have hle81 := hR3.le (k := 81) (M := 2048) (by decide)
  have w03 : frG [74, 75, 76, 77, 78, 79, 80] [75, 76] σ s3 := (w02.1.sub rfl rfl : frG [74, 75, 76, 77, 78, 79, 80] [75, 76] σ s2).trans (w23.sub rfl rfl)
  have hTC3 : TC N C c s3 := hTC.T (S := [74, 75, 76, 77, 78, 79, 80]) (T := [75, 76]) (F := []) ⟨w03.sub rfl rfl, fun i _ => w03.1 50 rfl i⟩ rfl ⟨rfl, rfl, rfl, rfl⟩ (fun _ h1 h2 => n5176 h1 h2)
  have hQ3 : QP (n0 + PL.length) pe s3 := by
    obtain ⟨q1, q2, q3, q4⟩ := b2
    have r12 : ∀ j i, j ≠ 77 → j ≠ 78 → rd s2 j i = rd s1 j i := fun j i h1 h2 => by rw [es2, wr_nek h2, wr_nek h1]
    refine ⟨by rw [r3 74 7 (by decide) (by decide), r12 74 7 (by decide) (by decide)]; exact q1, by rw [l3, l2]; exact q2, by rw [l3, l3, l2, l2]; exact q3, fun i hi => by rw [r3 75 i (by decide) (by decide), r12 75 i (by decide) (by decide)]; exact q4 i hi⟩
  have hB3 : BXL f fst [] s3 := by
    refine ⟨⟨?_, ?_, ?_, hle81, fun i hi => (by cases hi)⟩, ?_, ?_⟩
    · rw [es3, wr_nek (by decide), wr_self]
    · rw [es3, wr_self]; rfl
    · rw [l81]; exact hB.2.1
    · rw [r3 74 14 (by decide) (by decide)]; exact k14
    · rw [l82, l81]; exact hB.2.2
  obtain ⟨s4, z1, z2, z3, z4, z5, z6⟩ := numbers_loop (L := L) (xs := xs) (K1 := K1) (K2 := K2) (f := f) (fst := fst) (n := n0 + PL.length) (pe := pe) (by omega) (by omega) hfst hn hpe d PL.length n0 [] s3 (.int (i32 (n0 : Int))) rfl hTC3 hR3 hQ3 hB3 (fun x hx => by cases hx) (by decide)
  have ebl : bxF c pe PL.length n0 [] = bxL c (PL.map (fun e => pnC D σ e.1 e.2)) [] := by
    have := bxF_L (c := c) (pe := pe) (PL.map (fun e => pnC D σ e.1 e.2)) n0 [] (fun k x hx => by
      rw [List.getElem?_map] at hx
      cases he : PL[k]? with
      | none => rw [he] at hx; cases hx
      | some e => rw [he] at hx; rw [b5 k e he]; exact Option.some.inj hx)
    rw [List.length_map] at this
    exact this
  obtain ⟨bl, hbl2⟩ : ∃ bl, bl = bxL c (PL.map (fun e => pnC D σ e.1 e.2)) [] := ⟨_, rfl⟩
  rw [ebl, ← hbl2] at z5
  refine ⟨bl, hbl2, ?_⟩
  have w04 : frNu σ s4 := by
    refine ⟨(w03.sub rfl rfl : frG FNU [75, 76, 81, 82] σ s3).trans (z6.1.sub rfl rfl), fun i h1 h2 => ?_⟩
    rw [z6.2.1 i h2, r3 74 i (by decide) (by decide)]
    exact w02.2 i h1
  have hd : ∀ e, rd s1 47 f = i32 (D.bP (f + 1) : Int) ∧ (e = 0 → True) := fun e => ⟨(b3.rd (j := 47) rfl f).trans hff.1.2.2.2.1, fun _ => trivial⟩
  have e47 := (hd 0).1
  have hlen : bl.length ≤ 61 := by
    obtain ⟨⟨_, q2, q3, q4, _⟩, _⟩ := z5
    have : ∀ (l b : List Nat), b.length ≤ 61 → (bxL c l b).length ≤ 61 := by
      intro l
      induction l with
      | nil => intro b hb; exact hb
      | cons x l ih =>
        intro b hb
        show (if 60 < b.length then b else bxL c l (bxA c b x)).length ≤ 61
        by_cases q : 60 < b.length
        · rw [if_pos q]; exact hb
        · rw [if_neg q]
          refine ih _ ?_
          unfold bxA
          by_cases k : c x ∈ b.map c
          · rw [if_pos k]; exact hb
          · rw [if_neg k, List.length_append]
            have : [x].length = 1 := rfl
            omega
    rw [hbl2]; exact this _ _ (by decide)
  have run : rn L xs (d + 4) 163 0 [.ref 74, .int (i32 (f : Int)), v2, v3, v4, v5] [] σ = cond (pv_c2 .le (i32 (bl.length : Int)) 60) (rn L xs (d + 4) 163 175 [.ref 74, .int (i32 (f : Int)), .int (i32 (n0 : Int)), .int (i32 (slN D f (D.bP (f + 1) - D.bP f) : Int)), (dj (.int (i32 (D.bP (f + 1) : Int)))), (dj w5)] [] s4) (cond (pv_in (i32 (f : Int)) 21) (bI (rn L xs (d + 3) 58 0 [.ref 6, .int (rd s4 43 f)] [] s4) (fun a3 s2 => bV (rn L xs (d + 3) 45 0 [.ref 5, .int 6, .int a3] [] s2) (fun s4 => rn L xs (d + 4) 163 175 [.ref 74, .int (i32 (f : Int)), .int (i32 (n0 : Int)), .int (i32 (slN D f (D.bP (f + 1) - D.bP f) : Int)), (dj (dj (dj (.int (i32 (D.bP (f + 1) : Int)))))), (dj (dj (dj w5)))] [] s4) X0) X0) none) := by
    have a1' : rn L xs (d + 4) 163 18 [.ref 74, .int (i32 (f : Int)), .int (i32 (n0 : Int)), .int 0, .int (i32 (D.bP f : Int)), v5] [] σ = rn L xs (d + 4) 163 100 [.ref 74, .int (i32 (f : Int)), .int (i32 (n0 : Int)), .int (i32 (slN D f (D.bP (f + 1) - D.bP f) : Int)), .int (i32 (D.bP (f + 1) : Int)), w5] [] s1 := a1
    have z1' : rn L xs (d + 3) 166 0 [.ref 74, .int (i32 (f : Int)), .int (i32 (n0 : Int)), jv] [] s2 = some (.inl none, s4) := by
      rw [e166_0, c_in (by omega) (by omega) (by omega), c_in (by omega) (by omega) (by omega), i32_ixn (by omega), k14, ← es3]
      exact z1
    rw [e163_0, c_in (by omega) (by omega) (by omega), i32_ixn (by omega), hQ.1, hff.1.2.2.1, a1', e163_100 (d + 3), c_in (by omega) (by omega) (by omega), i32_ixn (by omega), e47, c_in (by omega) (by omega) (by omega), c_in (by omega) (by omega) (by omega), c_in (by omega) (by omega) (by omega), i32_ixn (by omega), b2.1, ← es2, bV_ok z1', c_in (by omega) (by omega) (by omega), z5.1.2.1]
  rw [show (60 : Int32) = i32 60 from rfl, c2_le (by omega) (by omega) (by omega) (by omega)] at run
  by_cases q : bl.length ≤ 60
  · refine .inr ⟨q, s4, pe, .int (i32 (slN D f (D.bP (f + 1) - D.bP f) : Int)), (dj (.int (i32 (D.bP (f + 1) : Int)))), (dj w5), ?_, hT.num w04.1 rfl rfl z2 z3, z4, hpe, b4, b5, z5, fun p h1 h2 => ?_, w04, fun i hi => ?_, fun g hg => ?_⟩
    · rw [run, c_t (by omega)]
    · rw [z6.1.1 77 rfl, z6.1.1 78 rfl, r3 77 p (by decide) (by decide), r3 78 p (by decide) (by decide), es2]
      unfold frO svO
      by_cases e : p = D.bP (f + 1)
      · rw [e, ← ePL]
        exact ⟨by rw [wr_nek (by decide), wr_self], by rw [wr_self]⟩
      · have := b6 (p - D.bP f) (by omega)
        rw [show D.bP f + (p - D.bP f) = p by omega] at this
        exact ⟨by rw [wr_nek (by decide), wr_nei (by omega)]; exact this.1, by rw [wr_nei (by omega), wr_nek (by decide)]; exact this.2⟩
    · rw [(z6.2.2.1 i hi).1, (z6.2.2.1 i hi).2, r3 81 i (by decide) (by decide), r3 82 i (by decide) (by decide)]
      exact ⟨w02.rd (j := 81) rfl i, w02.rd (j := 82) rfl i⟩
    · rw [z6.1.1 79 rfl, z6.2.2.2 g hg, es3]
      exact ⟨by rw [wr_nek (by decide), wr_nei hg]; exact w02.rd (j := 79) rfl g, by rw [wr_nei hg, wr_nek (by decide)]; exact w02.rd (j := 80) rfl g⟩
  · refine .inl ⟨by omega, s4, ?_, (hT.num w04.1 rfl rfl z2 z3).rlq z4.2.2.1 z5.2.2, w04⟩
    have r43 : rd s4 43 f = i32 (l : Int) := by rw [w04.rd (j := 43) rfl]; exact h43
    have p58 : rn L xs (d + 3) 58 0 [.ref 6, .int (i32 (l : Int))] [] s4 = some (.inl (some (.int (rd σ 13 l))), s4) := by
      rw [e58_0, c_in (by omega) (by omega) (by omega), i32_ixn (by omega), w04.rd (j := 13) rfl]
    have p45 : rn L xs (d + 3) 45 0 [.ref 5, .int 6, .int (rd σ 13 l)] [] s4 = some (.inr (1016, (rm s4).1), cFlt s4 6 (rd σ 13 l)) := by
      rw [e45_0, (z3.wr.wr : ROOM K1 K2 (wr (wr s4 5 0 6) 5 1 (rd σ 13 l))).xn hK2, cond_true]; rfl
    rw [run, c_f (by omega), c_in (by omega) (by omega) (by omega), r43, bI_ok p58, p45]
    rfl
end NUMC
