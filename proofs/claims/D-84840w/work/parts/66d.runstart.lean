/-! RUNS, BOTH: a run begins -/
section BSTART
variable {L : Nat} {xs : Nat → Int32} {σ τ : tvS} {D : pgD} {m : Nat} {rg : rgD} {cd : cdD} {T : tsD} {vd W : Nat → Nat} {M wd pgs ev N : Nat} {G : tG} {rr : Nat → Nat} {cs mt : Nat}
theorem run_start (hE : ENV D m rg cd T vd W M wd pgs ev) (hbk : D.bk D.fc = 0) (hRc : RSc D rg cd cs σ) (h4 : rd σ 103 4 = i32 (pgs : Int)) (h5 : rd σ 103 5 = i32 (wd : Int)) (h7 : rd σ 117 7 = i32 (ev : Int)) (hRm : RSm D rg cd vd N G rr τ) (h27 : rd τ 123 27 = i32 (D.fc : Int)) (h119 : rd τ 123 119 = i32 (pgs : Int)) (h120 : rd τ 123 120 = i32 (wd : Int)) (h121 : rd τ 123 121 = i32 (ev : Int)) (h162 : rd τ 123 162 = i32 (mt : Int)) (w1 v1 v2 v3 : Value) (dc dm : Nat) :
    ∃ σ' τ' : tvS, rn L xs (dc + 4) 258 0 [.ref 117, w1] [] σ = some (.inl none, σ') ∧ rn L xs (dm + 2) 394 13 [.ref 123, v1, v2, v3] [] τ = some (.inl none, τ') ∧ frW RCr σ σ' ∧ frM RAr RFl τ τ' ∧ ∃ μ, RUN D rg cd T vd W M N G rr (rd σ 95) cs wd pgs ev mt 0 μ σ' τ' := by
  have hP0 := hE.1.1.1
  have hnK := hE.1.2.2.2.2.2.2.2.2 D.fc (Nat.le_refl _)
  have how := fun k hk => hE.2.2.2.1 D.fc k (Nat.le_refl _) hk
  have hlen : (rg.gl D.fc).length ≤ 60 := by have : (rg.gl D.fc).length ≤ rg.nK D.fc := nfil_len _; omega
  obtain ⟨e1, e2, e3, e4, e5⟩ := hE.2.2.1
  obtain ⟨σ', pg', Ep, eb, a1, a2, a3, a4, a5, a6⟩ := rbegin_c (L := L) (xs := xs) (fn0 := fun _ => (0, 0)) (pl := fun _ => 0) (bk := fun _ => 0) hRc hP0.1 hnK how e4 (by omega) ⟨by omega, e2⟩ h4 h5 h7 w1 dc
  obtain ⟨τ', b1, b2, b3⟩ := rbegin_m (L := L) (xs := xs) (fn0 := fun _ => (0, 0)) (oa := fun _ => 0) hRm hP0.1 hlen (fun k hk => by have := gl_mem.mp hk; omega) h27 h119 h120 h121 h162 v1 v2 v3 dm
  obtain ⟨E, ty, av, hG⟩ := RGI.start hE hbk
  obtain ⟨B1, B2, B3, B4, B5, B6⟩ := mkL_B (i := 0) (rg.gl D.fc) (stX D) 0
  have hff : (mkL (stX D) 0 0 (rg.gl D.fc)).ff 0 = D.fc := by unfold dyD.ff; rw [B5]; rfl
  exact ⟨σ', τ', a1, b1, a6, b3, _, _, _, 0, E, 0, ty, _, av, 0, 0, _, _, _, 0, mt, _, pg', _, _, Ep, hG, b2, a2, .inl ⟨rfl, 100, eb, by rw [hff]; exact a3, rfl, a5, a4⟩, ⟨by omega, by rw [show (mkS ((fun _ => (0, 0, 0), 0, 0, 0, 0) : cSt) 0 (rg.gl D.fc)).cp = 0 from congrArg (fun q => q.2.1) (mkS_2 (rg.gl D.fc) ((fun _ => (0, 0, 0), 0, 0, 0, 0) : cSt) 0)]; exact Nat.zero_le _⟩, rfl⟩
end BSTART
