/-! BOTH IN ONE MEMORY: collect, begin -/
section MOREOPS
variable {L : Nat} {xs : Nat → Int32} {σ : tvS} {D : pgD} {m : Nat} {rg : rgD} {cd : cdD} {T : tsD} {vd W : Nat → Nat} {M wd pgs ev N : Nat} {G : tG} {rr : Nat → Nat} {R : Nat → Int32} {cs : Nat} {st c M0 mt : Nat}
/-- both collect -/
theorem collect_both (hE : ENV D m rg cd T vd W M wd pgs ev) (h : THR D rg cd T vd W M N G rr R cs wd pgs ev M0 st c σ σ) (hc : c = 1 ∨ c = 2) (hM0 : M0 ≤ 9000000) (dc dm : Nat) :
    ∃ (y : Int32) (σ1 σ2 : tvS), rn L xs (dc + 8) 256 0 [.ref 117] [] σ = some (.inl (some (.int y)), σ1) ∧ rn L xs (dm + 4) 426 0 [.ref 123, jv] [] σ1 = some (.inl (some (.int y)), σ2) ∧ frW RCr σ σ1 ∧ frM RAr (0 :: RFl) σ1 σ2 ∧ rd σ2 123 0 = 0 ∧ (THR D rg cd T vd W M N G rr R cs wd pgs ev (M0 + 30001) st c σ2 σ2 ∨ OVR D rg cd vd N G rr R cs wd pgs ev M0 st σ2 σ2) := by
  obtain ⟨y, σ1, τ1, a1, a2, a3, a4, a5, a6⟩ := collect_op (L := L) (xs := xs) hE h hc hM0 dc dm
  obtain ⟨y', σ3, τ3, b1, b2, b3, b4, b5, b6⟩ := collect_op (L := L) (xs := xs) hE (h.cw a3) hc hM0 dc dm
  have e := a1.symm.trans b1
  injection e with e
  injection e with e1 e2
  injection e1 with e1
  injection e1 with e1
  injection e1 with e1
  subst e1; subst e2
  refine ⟨y, σ1, τ3, a1, b2, a3, b4, b5, ?_⟩
  rcases b6 with b6 | b6
  · exact .inl (b6.mw b4.1)
  · exact .inr (b6.mw b4.1)
/-- both begin -/
theorem begin_both (hE : ENV D m rg cd T vd W M wd pgs ev) (hbk : D.bk D.fc = 0) (hRc : RSc D rg cd cs σ) (h4 : rd σ 103 4 = i32 (pgs : Int)) (h5 : rd σ 103 5 = i32 (wd : Int)) (h7 : rd σ 117 7 = i32 (ev : Int)) (hRm : RSm D rg cd vd N G rr σ) (h27 : rd σ 123 27 = i32 (D.fc : Int)) (h119 : rd σ 123 119 = i32 (pgs : Int)) (h120 : rd σ 123 120 = i32 (wd : Int)) (h121 : rd σ 123 121 = i32 (ev : Int)) (h162 : rd σ 123 162 = i32 (mt : Int)) (w1 v1 v2 v3 : Value) (dc dm : Nat) :
    ∃ σ1 σ2 : tvS, rn L xs (dc + 4) 258 0 [.ref 117, w1] [] σ = some (.inl none, σ1) ∧ frW RCr σ σ1 ∧ rn L xs (dm + 2) 394 13 [.ref 123, v1, v2, v3] [] (wr σ1 123 0 0) = some (.inl none, σ2) ∧ frM RAr (0 :: RFl) σ1 σ2 ∧ rd σ2 123 0 = 0 ∧ THR D rg cd T vd W M N G rr (rd σ 95) cs wd pgs ev mt 0 1 σ2 σ2 := by
  obtain ⟨σ1, τ1, a1, _, a3, _⟩ := run_start (L := L) (xs := xs) hE hbk hRc h4 h5 h7 hRm h27 h119 h120 h121 h162 w1 v1 v2 v3 dc dm
  have w := frM_c a3
  have e : ∀ q, q ≠ 0 → rd (wr σ1 123 0 0) 123 q = rd σ 123 q := fun q hq => by rw [wr_nei hq, w.2 q rfl]
  obtain ⟨σ3, τ3, b1, b2, b3, b4, μ, b5⟩ := run_start (L := L) (xs := xs) (τ := wr σ1 123 0 0) hE hbk hRc h4 h5 h7 ((hRm.cw w).w0) (by rw [e 27 (by decide)]; exact h27) (by rw [e 119 (by decide)]; exact h119) (by rw [e 120 (by decide)]; exact h120) (by rw [e 121 (by decide)]; exact h121) (by rw [e 162 (by decide)]; exact h162) w1 v1 v2 v3 dc dm
  have e1 := a1.symm.trans b1
  injection e1 with e1
  injection e1 with e1 e2
  subst e2
  have w2 : frM RAr (0 :: RFl) σ1 τ3 := (frM_w rfl).trans (b4.sub rfl rfl)
  exact ⟨σ1, τ3, a1, a3, b2, w2, by rw [b4.2 0 rfl, wr_self], b5.thr.mw w2.1⟩
end MOREOPS
