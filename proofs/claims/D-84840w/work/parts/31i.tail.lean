/-! READING: the end of a function -/
section FUNTAIL
variable {L : Nat} {xs : Nat → Int32} {K1 K2 m : Nat} {μ : Nat → Nat} {g fc : Nat} {sc : List Nat} {fs fs' : List (Nat × Nat × List Nat)} {F D H n A P r r0 V S : Nat} {σ τ σ' τ' σ1 τ1 σ'' τ'' : tvS}
theorem CORE.bare (h : CORE K1 K2 m μ g fc sc [] F A P r σ τ) (hP : P ≤ 4101) : CORE K1 K2 m μ g fc [] [] F A P r (wr σ 62 5 (i32 (-1))) (wr (wr τ 123 40 0) 123 43 0) := by
  refine h.scope hP (Nat.le_refl _) (fun j i hj => rdne hj) rfl (fun j i h1 h2 => by rw [rdne (by omega), rdne (by omega)]) (fun V1 S1 k0 k1 k2 k3 => ⟨S1, Nat.le_refl _, k3, ⟨wr_self _ _ _ _, wr_self _ _ _ _, ?_, by show (0 : Nat) ≤ 40; omega, fun k hk => absurd hk (Nat.not_lt_zero _), fun v hv => (by cases hv), fun u v hu => (by cases hu), ?_⟩, fun s _ => ⟨by rw [rdne (by omega), rdne (by omega)], by rw [rdne (by omega), rdne (by omega)]⟩⟩) (fun _ => ?_) (fun _ v hv => (by cases hv))
  · rw [wr_nei (by omega), wr_self]; rfl
  · rw [wr_nei (by omega), wr_nei (by omega)]; exact k0.2.2.2.2.2.2.2
  · unfold sufF; trivial
theorem CORE.bndV {p v : Nat} (h : CORE K1 K2 m μ g fc sc fs F A P r σ τ) (hp : p < P) (hb : bnd σ p v) (hv : v < 100000) : v < ix (rd σ 15 19) := by
  obtain ⟨V', S', C, q, cp, _, _, _, _, _, _, _, _, _, _, hpr, _⟩ := h
  obtain ⟨κ, s, kids, g1, g2, _, _, _, _, _, _, _, _, ⟨l, l1, l2, l3, l4, l5, l6, l7⟩, _⟩ := hpr p hp
  rcases hb with ⟨_, ⟨e1, c1, c3⟩ | ⟨e1, e2⟩ | ⟨e1, e2⟩⟩
  · obtain ⟨κ', s', kids', _, _, _, _, _, _, _, _, _, _, ⟨l', ⟨m1, m2⟩, _⟩, _⟩ := hpr (p - 1) (by omega)
    rw [c3] at m1
    cases l' with
    | nil =>
      have := (i32_inj (by omega) (by omega) (by omega) (by omega)).mp (show i32 (v : Int) = i32 (-1) from m1)
      omega
    | cons u t =>
      have hu := m1.2.1
      have := (i32_inj (by omega) (by omega) (by omega) (by omega)).mp m1.1
      have hh := m2 u List.mem_cons_self
      omega
  · have hk : κ = 19 := by
      have := (i32_inj (by omega) (by omega) (by omega) (by omega)).mp (g2.symm.trans e1)
      omega
    have := (l5 hk).1
    rw [e2, i32_ixn (by omega)] at this
    exact this
  · have hk : κ = 20 := by
      have := (i32_inj (by omega) (by omega) (by omega) (by omega)).mp (g2.symm.trans e1)
      omega
    have := (l6 hk).1
    rcases e2 with e2 | ⟨u, e3, e2⟩
    · rw [e2, i32_ixn (by omega)] at this
      omega
    · rw [e2, i32_ixn (by omega)] at this
      omega
theorem pls_mem {V0 : Nat} : ∀ {k i : Nat}, i < k → V0 + i ∈ pls V0 k := by
  intro k
  induction k with
  | zero => intro i hi; omega
  | succ k ih =>
    intro i hi
    by_cases e : i = k
    · rw [e]; exact List.mem_cons_self
    · exact List.mem_cons_of_mem _ (ih (by omega))
theorem pls_lt {V0 v : Nat} : ∀ {k : Nat}, v ∈ pls V0 k → V0 ≤ v ∧ v < V0 + k := by
  intro k
  induction k with
  | zero => intro h; cases h
  | succ k ih =>
    intro h
    rcases List.mem_cons.mp h with e | e
    · omega
    · have := ih e; omega
theorem FRh.stay {f k P0 V0 F0 S0 : Nat} (h : FRh m σ τ f k P0 V0 F0 S0) (hf : FR2 g P V S σ τ σ' τ') (hg : f ≠ g) : FRh m σ' τ' f k P0 V0 F0 S0 := by
  obtain ⟨⟨lx, a0, a1, a2⟩, a3, a4, a5, a6, a7, a8, a9, a10, a11, a12⟩ := h
  obtain ⟨b1, b2, _⟩ := hf
  exact ⟨⟨lx, a0, (b1 43 f (by omega) (by omega) hg).trans a1, (b2 139 f (by omega) hg).trans a2⟩, (b1 44 f (by omega) (by omega) hg).trans a3, (b2 140 f (by omega) hg).trans a4, a5, (b1 45 f (by omega) (by omega) hg).trans a6, (b2 141 f (by omega) hg).trans a7, (b2 144 f (by omega) hg).trans a8, (b1 46 f (by omega) (by omega) hg).trans a9, (b2 143 f (by omega) hg).trans a10, (b1 48 f (by omega) (by omega) hg).trans a11, (b2 202 f (by omega) hg).trans a12⟩
theorem bnd.fr {p v : Nat} (h : bnd σ p v) (hp : p < P) (hf : ∀ p, p < P → ∀ j, 16 ≤ j ∧ j ≤ 18 ∨ 23 ≤ j ∧ j ≤ 28 → rd σ' j p = rd σ j p) : bnd σ' p v :=
  h.to hp (fun p hp => ⟨hf p hp 16 (by omega), hf p hp 27 (by omega), hf p hp 28 (by omega)⟩)
theorem FRe.stay {f k P0 V0 F0 S0 P1 V1 F1 S1 : Nat} (h : FRe σ τ f k P0 V0 F0 S0 P1 V1 F1 S1) (hf : FR2 g P V S σ τ σ' τ') (hg : f ≠ g) (hP : P1 ≤ P) (hV : V1 ≤ V) (hS : S1 ≤ S) : FRe σ' τ' f k P0 V0 F0 S0 P1 V1 F1 S1 := by
  obtain ⟨a1, a2, a3, ⟨a4, a5, a6, a7⟩, ⟨a8, a9, a10, a11⟩, a12, a13, a14, a15, a16, a17, a18, ⟨u1, u2⟩, u3, u4, u5⟩ := h
  obtain ⟨b1, b2, b3, b4, b5, b6⟩ := hf
  have hpp : ∀ p, p < P → ∀ j, 16 ≤ j ∧ j ≤ 18 ∨ 23 ≤ j ∧ j ≤ 28 → rd σ' j p = rd σ j p := fun p hp => (b3 p hp).1
  refine ⟨(b1 47 f (by omega) (by omega) hg).trans a1, (b1 49 f (by omega) (by omega) hg).trans a2, (b2 142 f (by omega) hg).trans a3, ⟨a4, a5, a6, a7⟩, ⟨(hpp _ (by omega) 26 (by omega)).trans a8, (hpp _ (by omega) 24 (by omega)).trans a9, (hpp _ (by omega) 25 (by omega)).trans a10, ?_⟩, fun i hi => ((b5 _ (by omega)).1).trans (a12 i hi), fun p h1 h2 => by rw [(b3 p (by omega)).2]; exact a13 p h1 h2, fun s h1 h2 => by rw [b4 s (by omega) 150 (by omega), b4 s (by omega) 149 (by omega)]; exact a14 s h1 h2, fun p hp h17 => ?_, fun i hi => ?_, fun v h1 h2 => ?_, fun p hp => by rw [hpp p (by omega) 28 (by omega)]; exact a18 p hp, ⟨fun p v h1 h2 hb => u1 p v h1 h2 (hb.fr (P := P) (by omega) (fun p hp j hj => (hpp p hp j hj).symm)), fun p p' v h1 h2 h3 h4 hb hb' => u2 p p' v h1 h2 h3 h4 (hb.fr (P := P) (by omega) (fun p hp j hj => (hpp p hp j hj).symm)) (hb'.fr (P := P) (by omega) (fun p hp j hj => (hpp p hp j hj).symm))⟩, fun p h1 h2 => by rw [hpp p (by omega) 17 (by omega), b1 43 f (by omega) (by omega) hg]; exact u3 p h1 h2, fun p h1 => by rw [hpp p (by omega) 18 (by omega), b1 43 f (by omega) (by omega) hg]; exact u4 p h1, ?_⟩
  · rw [hpp _ (by omega) 28 (by omega)]
    exact a11.congr _ _ (fun v hv => ⟨(b5 v (by have := pls_lt hv; omega)).2.2, (b5 v (by have := pls_lt hv; omega)).2.1⟩)
  · rw [hpp p (by omega) 16 (by omega)] at h17
    rw [hpp p (by omega) 27 (by omega)]
    exact a15 p hp h17
  · obtain ⟨p, p1, p2, p3⟩ := a16 i hi
    exact ⟨p, p1, (hpp p (by omega) 16 (by omega)).trans p2, (hpp p (by omega) 27 (by omega)).trans p3⟩
  · obtain ⟨p, p1, p2, p3⟩ := a17 v h1 h2
    exact ⟨p, p1, p2, p3.fr (P := P) (by omega) hpp⟩
  · rcases u5 with e | e
    · exact .inl e
    · exact .inr (fun p h1 => by rw [hpp p (by omega) 18 (by omega), b1 43 f (by omega) (by omega) hg]; exact e p h1)
end FUNTAIL
