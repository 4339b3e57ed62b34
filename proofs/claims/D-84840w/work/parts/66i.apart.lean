/-! BOTH IN ONE MEMORY: what the one writes leaves the other alone -/
section APART
variable {σ σ' τ τ' : tvS} {D : pgD} {rg : rgD} {cd : cdD} {vd : Nat → Nat} {N : Nat} {G : tG} {r : Nat → Nat} {cs : Nat}
theorem frM_c (w : frW RCr τ τ') : frM RCr [] τ τ' := ⟨w.sub rfl, fun i _ => w.1 123 rfl i⟩
theorem RSm.cw (h : RSm D rg cd vd N G r τ) (w : frM RCr [] τ τ') : RSm D rg cd vd N G r τ' := by
  have hT : TM N G r τ' := h.1.fr w rfl ⟨rfl, rfl, rfl, rfl⟩
  obtain ⟨_, h2, h3, h4, h5⟩ := h
  refine ⟨hT, fun f hf => ?_, fun p hp => (h3 p hp).to (fun j hj i => ?_), fun v hv => by rw [w.rd (j := 147) rfl]; exact h4 v hv, fun f q hf q1 q2 => ?_⟩
  · obtain ⟨⟨a1, a2, a3⟩, a4, a5, a6, a7⟩ := h2 f hf
    exact ⟨⟨by rw [w.rd (j := 142) rfl]; exact a1, by rw [w.rd (j := 143) rfl]; exact a2, by rw [w.rd (j := 140) rfl]; exact a3⟩, by rw [w.rd (j := 190) rfl]; exact a4, by rw [w.rd (j := 191) rfl]; exact a5, fun i hi => by rw [w.rd (j := 192) rfl]; exact a6 i hi, fun k hk => by rw [w.rd (j := 194) rfl]; exact a7 k hk⟩
  · rcases hj with e | e | e | e | e | e | e | e <;> rw [e] <;> exact w.rd rfl i
  · obtain ⟨b1, b2, b3⟩ := h5 f q hf q1 q2
    refine ⟨fun k => ?_, fun k k' => ?_, fun k => ?_⟩
    · obtain ⟨x, x1, x2, x3⟩ := b1 k
      exact ⟨x, by rw [w.rd (j := 178) rfl]; exact x1, x2, by rw [w.rd (j := 184) rfl]; exact x3⟩
    · obtain ⟨n1, x1, x2, x3⟩ := b2 k k'
      refine ⟨n1, by rw [w.rd (j := 181) rfl]; exact x1, x2, fun i hi => ?_⟩
      obtain ⟨x, y1, y2, y3⟩ := x3 i hi
      exact ⟨x, by rw [w.rd (j := 182) rfl]; exact y1, y2, by rw [w.rd (j := 184) rfl]; exact y3⟩
    · obtain ⟨cf, kf, c1, c2, c3, c4, c5, c6, c7, c8⟩ := b3 k
      exact ⟨cf, kf, c1, c2, by rw [w.rd (j := 196) rfl]; exact c3, by rw [w.rd (j := 197) rfl]; exact c4, fun i hi => by rw [w.rd (j := 198) rfl]; exact c5 i hi, by rw [w.rd (j := 199) rfl]; exact c6, by rw [w.rd (j := 200) rfl]; exact c7, fun i hi => by rw [w.rd (j := 201) rfl]; exact c8 i hi⟩
theorem RSc.mw (h : RSc D rg cd cs σ) (w' : frW (123 :: RAr) σ σ') : RSc D rg cd cs σ' := by
  obtain ⟨h1, h2, h3, h4, h5, h6, fst, h7, h8, h9, h10, h11⟩ := h
  refine ⟨by rw [w'.ln]; exact h1, fun g hg => ?_, fun q hq => (h3 q hq).go (fun i _ => w'.1 95 rfl i) (w'.1 97 rfl q) (w'.1 98 rfl q) (Nat.le_refl _), fun j hj => by rw [w'.1 39 rfl, w'.1 84 rfl]; exact h4 j hj, fun j hj => ?_, by rw [w'.1 15 rfl]; exact h6, fst, by rw [w'.1 79 rfl]; exact h7, by rw [w'.ln]; exact h8, by rw [w'.ln]; exact h9, h10, fun k hk => by rw [w'.1 82 rfl]; exact h11 k hk⟩
  · obtain ⟨a1, a2, a3⟩ := h2 g hg
    exact ⟨a1.go (fun i _ => w'.1 95 rfl i) (w'.1 96 rfl g) (Nat.le_refl _), by rw [w'.1 80 rfl]; exact a2, by rw [w'.1 44 rfl]; exact a3⟩
  · obtain ⟨kf, k1, k2, k3, k4, k5⟩ := h5 j hj
    exact ⟨kf, by rw [w'.1 83 rfl]; exact k1, by rw [w'.ln]; exact k2, k3, by rw [w'.ln]; exact k4, fun i hi => by rw [w'.1 85 rfl]; exact k5 i hi⟩
end APART
section APART2
variable {σ σ' τ τ' : tvS} {D : pgD} {m : Nat} {rg : rgD} {cd : cdD} {T : tsD} {vd W : Nat → Nat} {M wd pgs ev N : Nat} {G : tG} {rr : Nat → Nat} {R : Nat → Int32} {cs : Nat} {X : dyD} {i n nr st c : Nat} {fn : Nat → Nat × Nat} {s : cSt} {oa : Nat → Nat} {fil mt M0 B no : Nat} {pl : Nat → Nat} {pg : Nat → List Nat} {fl : List Nat} {bk : Nat → Nat}
theorem MSk.cw (h : MSk fn s X n nr st oa fil mt pgs wd ev τ) (w : frM RCr [] τ τ') : MSk fn s X n nr st oa fil mt pgs wd ev τ' := by
  obtain ⟨m1, m2, m3, m4, m5, m6, m7, m8, m9⟩ := h
  exact ⟨m1.fr w rfl rfl rfl, m2.fr w ⟨rfl, rfl, rfl, rfl, rfl, rfl, rfl, rfl, rfl⟩ ⟨rfl, rfl⟩, m3.fr w ⟨rfl, rfl, rfl, rfl, rfl, rfl⟩ ⟨rfl, rfl, rfl, rfl, rfl, rfl, rfl, rfl, rfl⟩, m4.fr w rfl rfl, m5, m6, by rw [w.2 119 rfl]; exact m7, by rw [w.2 120 rfl]; exact m8, by rw [w.2 121 rfl]; exact m9⟩
theorem MVR.cw {c0 : Nat} (h : MVR st c0 s B no mt τ) (w : frM RCr [] τ τ') : MVR st c0 s B no mt τ' := by
  have e : ∀ q, rd τ' 123 q = rd τ 123 q := fun q => w.2 q rfl
  unfold MVR at h ⊢
  rw [e, e, e, e, e, e, e, e, e, e, e, e, e, e]
  exact h
theorem CPs.mw (h : CPs D X n nr wd pgs s pl pg fl σ) (w : frW (123 :: RAr) σ σ') : CPs D X n nr wd pgs s pl pg fl σ' :=
  ⟨h.1.fr (fun q _ => w.1 103 rfl q) (fun j hj q => w.1 j (by rcases hj with e | e | e | e | e | e | e <;> rw [e] <;> rfl) q), h.2.1.fr (fun j hj q => w.1 j (by rcases hj with e | e | e <;> rw [e] <;> rfl) q), h.2.2.1.fr (fun q => ⟨w.1 104 rfl q, w.1 105 rfl q⟩), h.2.2.2⟩
theorem CMf.mw (h : CMf rg X bk i σ) (w : frW (123 :: RAr) σ σ') : CMf rg X bk i σ' := h.fr (fun q _ => w.1 117 rfl q) (fun j hj q => w.1 j (by rcases hj with e | e | e | e | e <;> rw [e] <;> rfl) q)
theorem CMc.mw (h : CMc fn B no st ev nr (wr σ 117 5 1)) (w : frW (123 :: RAr) σ σ') : CMc fn B no st ev nr (wr σ' 117 5 1) := h.fr (fun q _ => by rw [wr_nek (by decide), wr_nek (by decide), w.1 103 rfl]) (fun q _ => by
  by_cases e : q = 5
  · subst e; rw [wr_self, wr_self]
  · rw [wr_nei e, wr_nei e, w.1 117 rfl]) (fun j hj q => by
  rw [wr_nek (by omega), wr_nek (by omega)]
  rcases hj with e | e <;> rw [e] <;> exact w.1 _ rfl q)
theorem CVR.mw {c0 : Nat} (h : CVR st c0 s B no pgs wd ev σ) (w : frW (123 :: RAr) σ σ') : CVR st c0 s B no pgs wd ev σ' := by
  obtain ⟨⟨f1, f2, f3, f4⟩, ⟨v1, v2, v3, v4, v5⟩, w1, w2, w3, w4, w5, w6, w7⟩ := h
  have e3 : ∀ q, rd σ' 103 q = rd σ 103 q := fun q => w.1 103 rfl q
  have e7 : ∀ q, rd σ' 117 q = rd σ 117 q := fun q => w.1 117 rfl q
  exact ⟨⟨by rw [e3]; exact f1, lkF.congr _ _ f2 (fun q _ => w.1 106 rfl q), by rw [e3]; exact f3, by rw [e3]; exact f4⟩, ⟨by rw [e7]; exact v1, by rw [e7]; exact v2, by rw [e7]; exact v3, by rw [e7]; exact v4, by rw [w.1 100 rfl]; exact v5⟩, by rw [e3]; exact w1, by rw [e3]; exact w2, by rw [e3]; exact w3, by rw [e3]; exact w4, by rw [e3]; exact w5, by rw [e3]; exact w6, by rw [e3]; exact w7⟩
/-- the component has written -/
theorem THR.cw (h : THR D rg cd T vd W M N G rr R cs wd pgs ev M0 st c σ τ) (w : frW RCr τ τ') : THR D rg cd T vd W M N G rr R cs wd pgs ev M0 st c σ τ' := by
  obtain ⟨X, K, i, E, n, ty, nr, av, Lv, dd, fn, s, oa, fil, mt, pl, pg, fl, bk, a, hG, ⟨h2, h3, h4, h5, h6⟩, h7, h14, h15⟩ := h
  have w' := frM_c w
  exact ⟨X, K, i, E, n, ty, nr, av, Lv, dd, fn, s, oa, fil, mt, pl, pg, fl, bk, a, hG, ⟨h2.cw w', h3.fr w' rfl rfl rfl rfl, h4.fr w' rfl rfl rfl rfl rfl rfl, h5.cw w', by rw [w'.2 122 rfl]; exact h6⟩, h7, h14, h15⟩
/-- the model has written -/
theorem THR.mw (h : THR D rg cd T vd W M N G rr R cs wd pgs ev M0 st c σ τ) (w : frW (123 :: RAr) σ σ') : THR D rg cd T vd W M N G rr R cs wd pgs ev M0 st c σ' τ := by
  obtain ⟨X, K, i, E, n, ty, nr, av, Lv, dd, fn, s, oa, fil, mt, pl, pg, fl, bk, a, hG, h2, ⟨h7, h8, h9, h10, h11, h12⟩, h14, h15⟩ := h
  refine ⟨X, K, i, E, n, ty, nr, av, Lv, dd, fn, s, oa, fil, mt, pl, pg, fl, bk, a, hG, h2, ⟨h7.mw w, h8.mw w, h9.mw w, h10.mw w, by rw [w.1 117 rfl]; exact h11, by rw [← h12]; funext q; exact w.1 95 rfl q⟩, h14, ?_⟩
  rcases h15 with ⟨q1, q2, q3⟩ | q
  · exact .inl ⟨q1, by rw [w.1 117 rfl]; exact q2, q3⟩
  · exact .inr q
theorem OVR.cw (h : OVR D rg cd vd N G rr R cs wd pgs ev M0 st σ τ) (w : frW RCr τ τ') : OVR D rg cd vd N G rr R cs wd pgs ev M0 st σ τ' := by
  obtain ⟨c, s, B, no, mt, hc, h1, h2, h3, h4, h5, h6⟩ := h
  have w' := frM_c w
  exact ⟨c, s, B, no, mt, hc, h1, h2, h3, h4.cw w', h5.cw w', h6⟩
theorem OVR.mw (h : OVR D rg cd vd N G rr R cs wd pgs ev M0 st σ τ) (w : frW (123 :: RAr) σ σ') : OVR D rg cd vd N G rr R cs wd pgs ev M0 st σ' τ := by
  obtain ⟨c, s, B, no, mt, hc, h1, h2, h3, h4, h5, h6⟩ := h
  exact ⟨c, s, B, no, mt, hc, h1.mw w, h2.mw w, by rw [← h3]; funext q; exact w.1 95 rfl q, h4, h5, h6⟩
/-- how it went is told -/
theorem THR.w0 {y : Int32} (h : THR D rg cd T vd W M N G rr R cs wd pgs ev M0 st c σ τ) : THR D rg cd T vd W M N G rr R cs wd pgs ev M0 st c σ (wr τ 123 0 y) := by
  obtain ⟨X, K, i, E, n, ty, nr, av, Lv, dd, fn, s, oa, fil, mt, pl, pg, fl, bk, a, hG, ⟨h2, h3, h4, h5, h6⟩, h7, h14, h15⟩ := h
  have w : frM [] [0] τ (wr τ 123 0 y) := frM_w rfl
  exact ⟨X, K, i, E, n, ty, nr, av, Lv, dd, fn, s, oa, fil, mt, pl, pg, fl, bk, a, hG, ⟨h2.w0, h3.fr w rfl rfl rfl rfl, h4.fr w rfl rfl rfl rfl rfl rfl, h5.w0, by rw [w.2 122 rfl]; exact h6⟩, h7, h14, h15⟩
theorem OVR.w0 {y : Int32} (h : OVR D rg cd vd N G rr R cs wd pgs ev M0 st σ τ) : OVR D rg cd vd N G rr R cs wd pgs ev M0 st σ (wr τ 123 0 y) := by
  obtain ⟨c, s, B, no, mt, hc, h1, h2, h3, h4, h5, h6⟩ := h
  have e : ∀ q, q ≠ 0 → rd (wr τ 123 0 y) 123 q = rd τ 123 q := fun q hq => wr_nei hq
  refine ⟨c, s, B, no, mt, hc, h1, h2, h3, ?_, h5.w0, h6⟩
  unfold MVR at h4 ⊢
  rw [e _ (by decide), e _ (by decide), e _ (by decide), e _ (by decide), e _ (by decide), e _ (by decide), e _ (by decide), e _ (by decide), e _ (by decide), e _ (by decide), e _ (by decide), e _ (by decide), e _ (by decide), e _ (by decide)]
  exact h4
end APART2
