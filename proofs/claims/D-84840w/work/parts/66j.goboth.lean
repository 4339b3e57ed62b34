/-! BOTH IN ONE MEMORY: go -/
section GOOP
variable {L : Nat} {xs : Nat → Int32} {σ σ' τ τ' : tvS} {D : pgD} {m : Nat} {rg : rgD} {cd : cdD} {T : tsD} {vd W : Nat → Nat} {M wd pgs ev N : Nat} {G : tG} {rr : Nat → Nat} {R : Nat → Int32} {cs : Nat} {st c M0 k : Nat}
theorem THR.wl1 {i : Nat} {y : Int64} (h : THR D rg cd T vd W M N G rr R cs wd pgs ev M0 st c σ τ) : THR D rg cd T vd W M N G rr R cs wd pgs ev M0 st c (wl σ 238 i y) τ := h
theorem THR.wl2 {i : Nat} {y : Int64} (h : THR D rg cd T vd W M N G rr R cs wd pgs ev M0 st c σ τ) : THR D rg cd T vd W M N G rr R cs wd pgs ev M0 st c σ (wl τ 238 i y) := by
  obtain ⟨X, K, i, E, n, ty, nr, av, Lv, dd, fn, s, oa, fil, mt, pl, pg, fl, bk, a, hG, ⟨h2, h3, h4, h5, h6⟩, h7, h14, h15⟩ := h
  exact ⟨X, K, i, E, n, ty, nr, av, Lv, dd, fn, s, oa, fil, mt, pl, pg, fl, bk, a, hG, ⟨h2, ⟨h3.1, MCl.fr K h3.2 (fun _ _ => ⟨rfl, rfl, rfl⟩)⟩, h4, h5, h6⟩, h7, h14, h15⟩
theorem OVR.wl1 {i : Nat} {y : Int64} (h : OVR D rg cd vd N G rr R cs wd pgs ev M0 st σ τ) : OVR D rg cd vd N G rr R cs wd pgs ev M0 st (wl σ 238 i y) τ := h
/-- what a run may come to -/
def AFT (D : pgD) (rg : rgD) (cd : cdD) (T : tsD) (vd W : Nat → Nat) (M N : Nat) (G : tG) (rr : Nat → Nat) (R : Nat → Int32) (cs wd pgs ev M0 : Nat) (σ τ : tvS) : Prop := ∃ st, THR D rg cd T vd W M N G rr R cs wd pgs ev M0 st 1 σ τ ∨ OVR D rg cd vd N G rr R cs wd pgs ev M0 st σ τ ∨ THR D rg cd T vd W M N G rr R cs wd pgs ev M0 st 2 σ τ
/-- both go on, from one memory -/
theorem go_both (hE : ENV D m rg cd T vd W M wd pgs ev) (h : THR D rg cd T vd W M N G rr R cs wd pgs ev M0 st 1 σ σ) (hM0 : M0 ≤ 2000000000) (hk : k ≤ 30000) (v2 v3 w2 w3 : Value) (d : Nat) :
    ∃ (y : Int32) (σ1 : tvS), rn L xs (d + 12) 260 0 [.ref 117, .int (i32 (k : Int)), v2, v3] [] σ = some (.inl (some (.int y)), σ1) ∧ frW RCr σ σ1 ∧
      ∀ (i0 : Nat) (z : Int64), ∃ σ2 : tvS, rn L xs (d + 7) 398 39 [.ref 123, .int (i32 (k : Int)), w2, w3] [] (wr (wl σ1 238 i0 z) 123 0 0) = some (.inl (some (.int y)), σ2) ∧ frM RAr (0 :: RFl) (wl σ1 238 i0 z) σ2 ∧ rd σ2 123 0 = 0 ∧ AFT D rg cd T vd W M N G rr R cs wd pgs ev M0 σ2 σ2 := by
  obtain ⟨μ, hR⟩ := h.run
  have h6 : ∀ τ, THR D rg cd T vd W M N G rr R cs wd pgs ev M0 st 1 σ τ → rd τ 123 123 = i32 (st : Int) := fun τ hτ => by
    obtain ⟨X, K, i, E, n, ty, nr, av, Lv, dd, fn, s, oa, fil, mt, pl, pg, fl, bk, a, hG, ⟨_, _, _, h5, _⟩, _⟩ := hτ
    exact h5.2.2.1.2.2.1
  obtain ⟨σ1, τ1, st', g0, g1, g2, g3, g4, g5⟩ := go_loop (L := L) (xs := xs) (d := d) (st0 := st) (k := k) hE hM0 hk _ st μ σ σ (Nat.le_refl _) (Nat.le_refl _) (by omega) hR
  rw [Nat.sub_self] at g1
  refine ⟨i32 ((st' - st : Nat) : Int), σ1, ?_, g3, fun i0 z => ?_⟩
  · rw [e260_0]; exact g1
  · have hT1 : THR D rg cd T vd W M N G rr R cs wd pgs ev M0 st 1 σ (wr (wl σ1 238 i0 z) 123 0 0) := ((h.cw g3).wl2 (i := i0) (y := z)).w0
    obtain ⟨μ', hR'⟩ := hT1.run
    obtain ⟨σ3, τ3, st3, q0, q1, q2, q3, q4, q5⟩ := go_loop (L := L) (xs := xs) (d := d) (st0 := st) (k := k) hE hM0 hk _ st μ' σ (wr (wl σ1 238 i0 z) 123 0 0) (Nat.le_refl _) (Nat.le_refl _) (by omega) hR'
    rw [Nat.sub_self] at q1
    have e := g1.symm.trans q1
    injection e with e
    injection e with e1 e2
    injection e1 with e1
    injection e1 with e1
    injection e1 with e1
    subst e2
    have w2' : frM RAr (0 :: RFl) (wl σ1 238 i0 z) τ3 := (frM_w rfl).trans (q4.sub rfl rfl)
    refine ⟨τ3, ?_, w2', by rw [q4.2 0 rfl, wr_self], st3, ?_⟩
    · rw [e398_39, h6 _ hT1, q2, e1]
    · have wc : frW (123 :: RAr) (wl σ1 238 i0 z) τ3 := w2'.1
      rcases q5 with ⟨μ3, q5⟩ | q5 | q5
      · exact .inl ((q5.thr.wl1 (i := i0) (y := z)).mw wc)
      · exact .inr (.inl ((q5.wl1 (i := i0) (y := z)).mw wc))
      · exact .inr (.inr ((q5.thr.wl1 (i := i0) (y := z)).mw wc))
end GOOP
