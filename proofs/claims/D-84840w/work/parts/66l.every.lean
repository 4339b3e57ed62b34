/-! BOTH IN ONE MEMORY: every -/
section EVERY
variable {L : Nat} {xs : Nat → Int32} {σ τ : tvS} {D : pgD} {m : Nat} {rg : rgD} {cd : cdD} {T : tsD} {vd W : Nat → Nat} {M wd pgs ev N : Nat} {G : tG} {rr : Nat → Nat} {R : Nat → Int32} {cs : Nat} {st c M0 : Nat}
theorem ENV.every {ev' : Nat} (hE : ENV D m rg cd T vd W M wd pgs ev) (h : ev' ≤ 10000) : ENV D m rg cd T vd W M wd pgs ev' := ⟨hE.1, hE.2.1, ⟨hE.2.2.1.1, hE.2.2.1.2.1, hE.2.2.1.2.2.1, hE.2.2.1.2.2.2.1, h⟩, hE.2.2.2⟩
theorem THR.every (ev' : Nat) (h : THR D rg cd T vd W M N G rr R cs wd pgs ev M0 st c σ τ) : THR D rg cd T vd W M N G rr R cs wd pgs ev' M0 st c (wr σ 117 7 (i32 (ev' : Int))) (wr τ 123 121 (i32 (ev' : Int))) := by
  obtain ⟨X, K, i, E, n, ty, nr, av, Lv, dd, fn, s, oa, fil, mt, pl, pg, fl, bk, a, hG, ⟨h2, h3, h4, h5, h6⟩, ⟨h7, h8, h9, h10, h11, h12⟩, h14, h15⟩ := h
  have w : frM [] [121] τ (wr τ 123 121 (i32 (ev' : Int))) := frM_w rfl
  have w' : frM RAr [121] τ (wr τ 123 121 (i32 (ev' : Int))) := frM_w rfl
  have wc : frW [117] σ (wr σ 117 7 (i32 (ev' : Int))) := frW_wr rfl
  have k : ∀ q, q ≠ 7 → rd (wr σ 117 7 (i32 (ev' : Int))) 117 q = rd σ 117 q := fun q hq => wr_nei hq
  obtain ⟨m1, m2, m3, m4, m5, m6, m7, m8, m9⟩ := h5
  obtain ⟨y1, y2, y3, y4, y5, y6, y7⟩ := h10
  refine ⟨X, K, i, E, n, ty, nr, av, Lv, dd, fn, s, oa, fil, mt, pl, pg, fl, bk, a, hG, ⟨h2.toF (h2.1.fr w rfl ⟨rfl, rfl, rfl, rfl⟩) w', h3.fr w rfl rfl rfl rfl, h4.fr w rfl rfl rfl rfl rfl rfl, ⟨m1.fr w rfl rfl rfl, m2.fr w ⟨rfl, rfl, rfl, rfl, rfl, rfl, rfl, rfl, rfl⟩ ⟨rfl, rfl⟩, m3.fr w ⟨rfl, rfl, rfl, rfl, rfl, rfl⟩ ⟨rfl, rfl, rfl, rfl, rfl, rfl, rfl, rfl, rfl⟩, m4.fr w rfl rfl, m5, m6, by rw [w.2 119 rfl]; exact m7, by rw [w.2 120 rfl]; exact m8, wr_self _ _ _ _⟩, by rw [w.2 122 rfl]; exact h6⟩, ⟨h7.fr wc rfl, h8.fr wc rfl, h9.fr (fun q hq => k q (by omega)) (fun j hj q => wc.1 j (by rcases hj with e | e | e | e | e <;> rw [e] <;> rfl) q), ?_, by rw [k 5 (by decide)]; exact h11, by rw [← h12]; funext q; exact wc.1 95 rfl q⟩, h14, ?_⟩
  · have k5 : ∀ q, q ≠ 7 → rd (wr (wr σ 117 7 (i32 (ev' : Int))) 117 5 1) 117 q = rd (wr σ 117 5 1) 117 q := fun q hq => by
      by_cases e : q = 5
      · subst e; rw [wr_self, wr_self]
      · rw [wr_nei e, wr_nei e, k q hq]
    refine ⟨fun r hr => ?_, ?_, y3, ?_, by rw [k5 5 (by decide)]; exact y5, by rw [k5 6 (by decide)]; exact y6, by rw [wr_nei (by decide), wr_self]⟩
    · have := y1 r hr
      rw [wr_nek (by decide), wr_nek (by decide)] at this ⊢
      rw [wr_nek (by decide), wr_nek (by decide)]
      exact this
    · rw [wr_nek (by decide), wr_nek (by decide)]; rw [wr_nek (by decide)] at y2; exact y2
    · rw [wr_nek (by decide), wr_nek (by decide)]; rw [wr_nek (by decide)] at y4; exact y4
  · rcases h15 with ⟨q1, q2, q3⟩ | q
    · exact .inl ⟨q1, by rw [k 8 (by decide)]; exact q2, q3⟩
    · exact .inr q
theorem OVR.every (ev' : Nat) (h : OVR D rg cd vd N G rr R cs wd pgs ev M0 st σ τ) : OVR D rg cd vd N G rr R cs wd pgs ev' M0 st (wr σ 117 7 (i32 (ev' : Int))) (wr τ 123 121 (i32 (ev' : Int))) := by
  obtain ⟨c, s, B, no, mt, hc, ⟨⟨f1, f2, f3, f4⟩, ⟨v1, v2, v3, v4, v5⟩, w1⟩, h2, h3, h4, h5, h6⟩ := h
  have w : frM [] [121] τ (wr τ 123 121 (i32 (ev' : Int))) := frM_w rfl
  have w' : frM RAr [121] τ (wr τ 123 121 (i32 (ev' : Int))) := frM_w rfl
  have wc : frW [117] σ (wr σ 117 7 (i32 (ev' : Int))) := frW_wr rfl
  have k : ∀ q, q ≠ 7 → rd (wr σ 117 7 (i32 (ev' : Int))) 117 q = rd σ 117 q := fun q hq => wr_nei hq
  have k3 : ∀ q, rd (wr σ 117 7 (i32 (ev' : Int))) 103 q = rd σ 103 q := fun q => wr_nek (by decide)
  have e : ∀ q, q ≠ 121 → rd (wr τ 123 121 (i32 (ev' : Int))) 123 q = rd τ 123 q := fun q hq => wr_nei hq
  refine ⟨c, s, B, no, mt, hc, ⟨⟨by rw [k3]; exact f1, lkF.congr _ _ f2 (fun q _ => wr_nek (by decide)), by rw [k3]; exact f3, by rw [k3]; exact f4⟩, ⟨by rw [k 5 (by decide)]; exact v1, by rw [k 6 (by decide)]; exact v2, wr_self _ _ _ _, by rw [k 17 (by decide)]; exact v4, by rw [wr_nek (by decide)]; exact v5⟩, by rw [k3, k3, k3, k3, k3, k3, k3]; exact w1⟩, h2.fr wc rfl, by rw [← h3]; funext q; exact wc.1 95 rfl q, ?_, h5.toF (h5.1.fr w rfl ⟨rfl, rfl, rfl, rfl⟩) w', h6⟩
  unfold MVR at h4 ⊢
  rw [e _ (by decide), e _ (by decide), e _ (by decide), e _ (by decide), e _ (by decide), e _ (by decide), e _ (by decide), e _ (by decide), e _ (by decide), e _ (by decide), e _ (by decide), e _ (by decide), e _ (by decide), e _ (by decide)]
  exact h4
end EVERY
