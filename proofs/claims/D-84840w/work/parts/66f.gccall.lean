/-! COLLECTIONS, BOTH: the call -/
section GCCALL
variable {L : Nat} {xs : Nat → Int32} {σ τ : tvS} {D : pgD} {m : Nat} {rg : rgD} {cd : cdD} {T : tsD} {vd W : Nat → Nat} {M wd pgs ev N : Nat} {G : tG} {rr : Nat → Nat} {R : Nat → Int32} {cs : Nat} {X : dyD} {n nr st c : Nat} {fn : Nat → Nat × Nat} {s : cSt} {oa : Nat → Nat} {fil mt M0 : Nat}
theorem MSk.w0 {y : Int32} (h : MSk fn s X n nr st oa fil mt pgs wd ev τ) : MSk fn s X n nr st oa fil mt pgs wd ev (wr τ 123 0 y) := by
  have w : frM [] [0] τ (wr τ 123 0 y) := frM_w rfl
  obtain ⟨m1, m2, m3, m4, m5, m6, m7, m8, m9⟩ := h
  exact ⟨m1.fr w rfl rfl rfl, m2.fr w ⟨rfl, rfl, rfl, rfl, rfl, rfl, rfl, rfl, rfl⟩ ⟨rfl, rfl⟩, m3.fr w ⟨rfl, rfl, rfl, rfl, rfl, rfl⟩ ⟨rfl, rfl, rfl, rfl, rfl, rfl, rfl, rfl, rfl⟩, m4.fr w rfl rfl, m5, m6, by rw [w.2 119 rfl]; exact m7, by rw [w.2 120 rfl]; exact m8, by rw [w.2 121 rfl]; exact m9⟩
theorem collect_op (hE : ENV D m rg cd T vd W M wd pgs ev) (h : THR D rg cd T vd W M N G rr R cs wd pgs ev M0 st c σ τ) (hc : c = 1 ∨ c = 2) (hM0 : M0 ≤ 9000000) (dc dm : Nat) :
    ∃ (y : Int32) (σ' τ' : tvS), rn L xs (dc + 8) 256 0 [.ref 117] [] σ = some (.inl (some (.int y)), σ') ∧ rn L xs (dm + 4) 426 0 [.ref 123, jv] [] τ = some (.inl (some (.int y)), τ') ∧ frW RCr σ σ' ∧ frM RAr (0 :: RFl) τ τ' ∧ rd τ' 123 0 = 0 ∧ (THR D rg cd T vd W M N G rr R cs wd pgs ev (M0 + 30001) st c σ' τ' ∨ OVR D rg cd vd N G rr R cs wd pgs ev M0 st σ' τ') := by
  obtain ⟨X, K, i, E, n, ty, nr, av, Lv, dd, fn, s, oa, fil, mt, pl, pg, fl, bk, a, hG, ⟨h2, h3, h4, h5, h6⟩, ⟨h7, h8, h9, h10, h11, h12⟩, h14, h15⟩ := h
  have hno := hG.no_le
  have hp1 : 1 ≤ pgs := by have := hE.2.2.1.2.2.1; omega
  have p1 : rn L xs (dc + 7) 257 0 [.ref 117] [] σ = some (.inl (some (.int 1)), σ) := by
    rw [e257_0, h11]
    rcases hc with e | e
    · rw [e, show pv_c2 .eq (i32 ((1 : Nat) : Int)) 1 = true from rfl, cond_true, e257_16, e257_21]; rfl
    · rw [e, show pv_c2 .eq (i32 ((2 : Nat) : Int)) 1 = false from rfl, cond_false, show pv_c2 .ne (i32 ((2 : Nat) : Int)) 2 = false from rfl, cond_false, e257_16, e257_21]; rfl
  have hch : rn L xs (dc + 8) 256 0 [.ref 117] [] σ = rn L xs (dc + 8) 256 9 [.ref 117] [] σ := by
    rw [e256_0 (dc + 7), bI_ok p1, show pv_c1 .ne (1 : Int32) = true from rfl, cond_true]
  obtain ⟨τ0, e0⟩ : ∃ τ0, τ0 = wr τ 123 0 0 := ⟨_, rfl⟩
  have w0 : frM [] [0] τ τ0 := by rw [e0]; exact frM_w rfl
  have hmh : rn L xs (dm + 4) 426 0 [.ref 123, jv] [] τ = rn L xs (dm + 4) 426 23 [.ref 123, jv] [] τ0 := by
    rw [e426_0, h6]
    rcases hc with e | e
    · rw [e, show pv_c2 .eq (i32 ((1 : Nat) : Int)) 1 = true from rfl, cond_true, ← e0]
    · rw [e, show pv_c2 .eq (i32 ((2 : Nat) : Int)) 1 = false from rfl, cond_false, show pv_c2 .eq (i32 ((2 : Nat) : Int)) 2 = true from rfl, cond_true, ← e0]
  have hM0' : MSk fn s X n nr st oa fil mt pgs wd ev τ0 := by rw [e0]; exact h5.w0
  have hR0 : RSm D rg cd vd N G rr τ0 := by rw [e0]; exact h2.w0
  have e126 : rd τ0 123 126 = i32 (s.cp : Int) := hM0'.2.2.1.2.2.2.2.1
  rcases gc_both (L := L) (xs := xs) hE hG hM0' h7 h8 (by omega) (by omega) (dc + 1) (dm + 1) with ⟨Nq, s', σ', τ', pl', pg', fl', a1, a2, a3, a4, a5, a6, a7, ⟨a8, a9⟩, a10⟩ | ⟨σ1, τ1, τ', b1, b2, b3, b4, b5, b6, b7⟩
  · have w3 : frM RAr (0 :: RFl) τ τ' := (w0.sub rfl rfl).trans (a10.sub rfl rfl)
    have k117 : ∀ q, rd σ' 117 q = rd σ 117 q := fun q => a8.1 117 rfl q
    have p2 : rn L xs (dc + 7) 241 0 [.ref 103] [] σ' = some (.inl (some (.int (i32 (Nq : Int)))), σ') := by rw [e241_0, a7]
    have e126' : rd τ' 123 126 = i32 ((s.cp + Nq : Nat) : Int) := by rw [← a2]; exact a6.2.2.1.2.2.2.2.1
    have ey : i32 ((s.cp + Nq : Nat) : Int) - i32 (s.cp : Int) = i32 (Nq : Int) := by rw [i32_sub]; congr 1; omega
    refine ⟨i32 (Nq : Int), σ', τ', ?_, ?_, a8.sub rfl, w3, by rw [a10.2 0 rfl, e0, wr_self], .inl ⟨X, K, i, E, n, ty, nr, av, Lv, dd, fn, s', oa, fil, mt + 1, pl', pg', fl', bk, a, hG, ⟨hR0.fr a10 rfl rfl rfl, (h3.fr w0 rfl rfl rfl rfl).fr a10 rfl rfl rfl rfl, (h4.fr w0 rfl rfl rfl rfl rfl rfl).fr a10 rfl rfl rfl rfl rfl rfl, a6, by rw [a10.2 122 rfl, w0.2 122 rfl]; exact h6⟩, ⟨h7.fr a8 rfl, a5, h9.fr (fun q _ => k117 q) (fun j hj q => a8.1 j (by rcases hj with e | e | e | e | e <;> rw [e] <;> rfl) q), ?_, by rw [k117]; exact h11, by rw [← h12]; funext q; exact a8.1 95 rfl q⟩, by omega, ?_⟩⟩
    · rw [hch, e256_9 (dc + 7), bI_ok a3, show pv_c1 .eq (1 : Int32) = false from rfl, cond_false, bI_ok p2]
    · rw [hmh, e426_23 (dm + 3), bI_ok a4, show pv_c1 .eq (1 : Int32) = false from rfl, cond_false, e426_45, e126', e126, ey]
    · refine h10.fr (fun q hq => ?_) (fun q hq => ?_) (fun j hj q => ?_)
      · rw [wr_nek (by decide), wr_nek (by decide), a9 q (by omega) (by omega) (by omega) (by omega) (by omega) (by omega)]
      · by_cases e : q = 5
        · subst e; rw [wr_self, wr_self]
        · rw [wr_nei e, wr_nei e, k117]
      · rw [wr_nek (by omega), wr_nek (by omega)]
        rcases hj with e | e <;> rw [e] <;> exact a8.1 _ rfl q
    · rcases h15 with ⟨q1, q2, q3⟩ | q
      · exact .inl ⟨q1, by rw [k117]; exact q2, q3⟩
      · exact .inr q
  · obtain ⟨v1, v2, v3⟩ := b2
    obtain ⟨y1, y2, y3, y4, y5, y6, y7⟩ := h10
    have c103 : ∀ q, rd (wr σ 117 5 1) 103 q = rd σ 103 q := fun q => wr_nek (by decide)
    have k103 : ∀ q, q ≠ 8 → q ≠ 9 → q ≠ 10 → q ≠ 26 → rd σ1 103 q = rd σ 103 q := v2
    obtain ⟨z1, z2, _, z4, z5, z6, z7, z8⟩ := h8.1.1
    obtain ⟨σ2, g1, g2, g3⟩ := end_c (L := L) (xs := xs) (σ := σ1) (c := 5) (s := (s.R, s.cl, s.cp, s.U, pgs)) (B := X.B) (no := X.no) (pgs := pgs) (wd := wd) (st := st) (ev := ev) hE.2.2.1.2.2.2.1 hp1 (by rw [k103 4 (by decide) (by decide) (by decide) (by decide)]; exact z1) (by rw [k103 5 (by decide) (by decide) (by decide) (by decide)]; exact z2) v3 (by rw [k103 20 (by decide) (by decide) (by decide) (by decide), ← c103]; exact y2) (by rw [k103 21 (by decide) (by decide) (by decide) (by decide), ← c103]; exact y4) (by rw [k103 22 (by decide) (by decide) (by decide) (by decide)]; exact z7) (by rw [k103 23 (by decide) (by decide) (by decide) (by decide)]; exact z8) (by rw [v1.1 117 rfl]; rw [wr_nei (by decide)] at y6; exact y6) (by rw [v1.1 117 rfl]; rw [wr_nei (by decide)] at y7; exact y7) (dc + 5)
    have g1 : rn L xs (dc + 7) 252 0 [.ref 117, .int 5] [] σ1 = some (.inl none, σ2) := g1
    have w2 : frW RCr σ σ2 := (v1.sub rfl).trans (g3.sub rfl)
    obtain ⟨q1, q2⟩ := b7.over (s := (s.R, s.cl, s.cp, s.U, pgs)) (B := X.B) (no := X.no) (mt := mt + 1) (st := st) b6 rfl rfl b4 (by rw [b6.2 124 rfl]; exact hM0'.2.1.1) b5.1
    refine ⟨i32 (-1), σ2, τ', ?_, ?_, w2, (w0.sub rfl rfl).trans (q2.sub rfl rfl), by rw [q2.2 0 rfl, e0, wr_self], .inr ⟨5, (s.R, s.cl, s.cp, s.U, pgs), X.B, X.no, mt + 1, by omega, g2, h7.fr w2 rfl, by rw [← h12]; funext q; exact w2.1 95 rfl q, q1, hR0.men b6 rfl rfl rfl b7, by omega⟩⟩
    · rw [hch, e256_9 (dc + 7), bI_ok b1, show pv_c1 .eq (0 : Int32) = true from rfl, cond_true, e256_27 (dc + 7), bV_ok g1, i32_raw]
    · rw [hmh, e426_23 (dm + 3), bI_ok b3, show pv_c1 .eq (0 : Int32) = true from rfl, cond_true, e426_44, e426_45, i32_raw]
end GCCALL
