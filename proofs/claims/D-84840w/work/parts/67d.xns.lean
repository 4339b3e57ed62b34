/-! BOTH IN ONE MEMORY: an exception is made -/
section XNS
variable {σ τ : tvS} {D : pgD} {rg : rgD} {cd : cdD} {T : tsD} {vd W : Nat → Nat} {M wd pgs ev N : Nat} {G : tG} {rr : Nat → Nat} {R : Nat → Int32} {cs : Nat} {st c M0 : Nat}
theorem THR.xn1 (h : THR D rg cd T vd W M N G rr R cs wd pgs ev M0 st c σ τ) : THR D rg cd T vd W M N G rr R cs wd pgs ev M0 st c (xn σ) τ := h
theorem THR.xn2 (h : THR D rg cd T vd W M N G rr R cs wd pgs ev M0 st c σ τ) : THR D rg cd T vd W M N G rr R cs wd pgs ev M0 st c σ (xn τ) := by
  obtain ⟨X, K, i, E, n, ty, nr, av, Lv, dd, fn, s, oa, fil, mt, pl, pg, fl, bk, a, hG, ⟨h2, h3, h4, h5, h6⟩, h7, h14, h15⟩ := h
  exact ⟨X, K, i, E, n, ty, nr, av, Lv, dd, fn, s, oa, fil, mt, pl, pg, fl, bk, a, hG, ⟨h2, ⟨h3.1, MCl.fr K h3.2 (fun _ _ => ⟨rfl, rfl, rfl⟩)⟩, h4, h5, h6⟩, h7, h14, h15⟩
theorem OVR.xn1 (h : OVR D rg cd vd N G rr R cs wd pgs ev M0 st σ τ) : OVR D rg cd vd N G rr R cs wd pgs ev M0 st (xn σ) τ := h
theorem OVR.xn2 (h : OVR D rg cd vd N G rr R cs wd pgs ev M0 st σ τ) : OVR D rg cd vd N G rr R cs wd pgs ev M0 st σ (xn τ) := h
theorem TLD.xn (h : TLD σ τ) : TLD (xn σ) (xn τ) := h
theorem TLD.wl {i j : Nat} {y z : Int64} (h : TLD σ τ) : TLD (wl σ 238 i y) (wl τ 238 j z) := h
theorem TLD.w0 {y : Int32} (h : TLD σ τ) : TLD σ (wr τ 123 0 y) := by
  obtain ⟨nr, h1, h2, h3, h4, h5⟩ := h
  have e : ∀ q, q ≠ 0 → rd (wr τ 123 0 y) 123 q = rd τ 123 q := fun q hq => wr_nei hq
  have e2 : ∀ k q, k ≠ 123 → rd (wr τ 123 0 y) k q = rd τ k q := fun k q hk => wr_nek hk
  refine ⟨nr, h1, h2, by rw [e 122 (by decide)]; exact h3, fun h => h4 (by rw [← e 122 (by decide)]; exact h), fun h => ?_⟩
  obtain ⟨⟨a0, a1, a2, a3, a4, a5, a6, a7, a8, a9, a10⟩, b⟩ := h5 (by rw [← e 122 (by decide)]; exact h)
  refine ⟨⟨by rw [e 144 (by decide)]; exact a0, by rw [e 123 (by decide)]; exact a1, by rw [e 124 (by decide)]; exact a2, by rw [e 125 (by decide)]; exact a3, by rw [e 126 (by decide)]; exact a4, by rw [e 127 (by decide)]; exact a5, by rw [e 128 (by decide)]; exact a6, by rw [e 129 (by decide)]; exact a7, by rw [e 131 (by decide)]; exact a8, by rw [e 132 (by decide)]; exact a9, by rw [e 130 (by decide)]; exact a10⟩, fun r hr => ?_⟩
  rw [e2 216 r (by decide), e2 217 r (by decide), e2 219 r (by decide), e2 220 r (by decide), e2 221 r (by decide)]
  exact b r hr
end XNS
