/-! BETWEEN FUNCTIONS: what is frozen -/
section FROZ
variable {D : pgD} {f : Nat} {G : tG} {r : Nat → Nat}
/-- nothing comes to be held but by arrows of the function's fns -/
theorem LFP.old {h0 : Nat → Nat → Prop} {Bs : Nat → Nat → Prop} {np : Nat → Nat} {pn : Nat → Nat → Nat} {ar by' : Nat → Nat} {sf : Nat → Prop} {cap : Nat → Nat → Prop} {t v : Nat} (k : LFP D f G r h0 Bs np pn ar by' sf cap t v) (hn : ∀ j, D.bF f ≤ j → j < D.bF (f + 1) → t ≠ r (ar j)) : hQ r h0 t v := by
  have : hQ r h0 t v ∨ ∃ j, D.bF f ≤ j ∧ j < D.bF (f + 1) ∧ t = r (ar j) := k (fun t v => hQ r h0 t v ∨ ∃ j, D.bF f ≤ j ∧ j < D.bF (f + 1) ∧ t = r (ar j)) ⟨fun t v e h => .inl ⟨v, h, rfl⟩, fun j v j1 j2 _ _ => .inr ⟨j, j1, j2, rfl⟩, fun j q i j1 j2 _ _ _ _ => .inr ⟨j, j1, j2, rfl⟩, fun j q i j1 j2 _ _ _ _ _ _ => .inr ⟨j, j1, j2, rfl⟩⟩
  rcases this with h | ⟨j, j1, j2, e⟩
  · exact h
  · exact absurd e (hn j j1 j2)
theorem FRZ.keepQ {B B' : Nat} {h h' : Nat → Nat → Prop} {RS : Nat → Prop} (hf : FRZ B G r h RS) (hB : B ≤ B') (hh : ∀ t, RS t → ∀ v, hQ r h' t v ↔ hQ r h t v) : FRZ B' G r h' RS := by
  obtain ⟨a1, a2, a3, a4⟩ := hf
  refine ⟨fun t ht => ?_, a2, a3, fun l hd hl => a4 l hd (fun p hp => ?_)⟩
  · obtain ⟨b1, b2, b3, b4⟩ := a1 t ht
    refine ⟨by omega, b2, fun hk => ⟨by have := (b3 hk).1; omega, (b3 hk).2.1, fun h3 => ⟨by have := ((b3 hk).2.2 h3).1; omega, ((b3 hk).2.2 h3).2⟩⟩, fun u hu => ?_⟩
    obtain ⟨v, v1, v2⟩ := (hh t ht (r u)).mp ⟨u, hu, rfl⟩
    rw [← v2]; exact b4 v v1
  · obtain ⟨c1, c2, c3⟩ := hl p hp
    exact ⟨c1, c2, (hh _ c1 _).mp c3⟩
/-- a side's types, plainly -/
def PLN (N : Nat) (G : tG) (r : Nat → Nat) (h : Nat → Nat → Prop) : Prop := (∀ x, r (r x) = r x) ∧ (∀ x, x < N → r x < N) ∧ (∀ x, N ≤ x → r x = x ∧ G.1 x = 0) ∧ (∀ x, x < N → 2 ≤ G.1 x → G.2.1 x < N ∧ (G.1 x ≠ 3 → G.2.2 x < N)) ∧ (∀ x u, h (r x) u → r x < N ∧ u < N) ∧ 0 < N
theorem PLN.lt {N : Nat} {h : Nat → Nat → Prop} {Bs : Nat → Prop} {t : Nat} (p : PLN N G r h) (hB : ∀ b, Bs b → b < N) (q : RQ G r h Bs t) : t < N := by
  obtain ⟨p1, p2, p3, p4, p5, _⟩ := p
  refine q (fun y => y < N) (fun x y e hx => ?_) (fun x z hx hk hz => ?_) (fun x u hx hu => (p5 x u hu).2) hB
  · by_cases c : y < N
    · exact c
    · have e1 := (p3 y (by omega)).1
      have e2 := p2 x hx
      have : r y < N := by rw [← e]; exact e2
      omega
  · obtain ⟨k1, k2⟩ := p4 (r x) (p2 x hx) hk
    unfold kids at hz
    by_cases c : G.1 (r x) = 3
    · rw [if_pos c] at hz; rw [List.mem_singleton.mp hz]; exact k1
    · rw [if_neg c] at hz
      rcases List.mem_cons.mp hz with e | e
      · rw [e]; exact k2 c
      · rw [List.mem_singleton.mp e]; exact k1
/-- what a signature reaches -/
def RSg (G : tG) (r : Nat → Nat) (h : Nat → Nat → Prop) (Bs : Nat → Prop) (t : Nat) : Prop := r t = t ∧ RQ G r h Bs t
theorem MSR.frz {N A U Hh : Nat} {h : Nat → Nat → Prop} {Bs : Nat → Prop} (k : MSR G r h Bs A U Hh) (p : PLN N G r h) (hB : ∀ b, Bs b → b < N) (hA : A ≤ 24) (hU : U ≤ 40) (hH : Hh ≤ 100) : FRZ N G r h (RSg G r h Bs) := by
  obtain ⟨⟨l1, n1, e1, m1⟩, ⟨l2, n2, e2, m2⟩, l3, n3, e3, m3⟩ := k
  refine ⟨fun t ⟨t1, t2⟩ => ?_, fun l hd hl => ?_, fun l hd hl => ?_, fun l hd hl => ?_⟩
  · have ht := p.lt hB t2
    refine ⟨ht, t1, fun hk => ?_, fun u hu => ⟨p.1 u, (t2.held (by rw [t1]; exact hu)).cl (p.1 u).symm⟩⟩
    obtain ⟨k1, k2⟩ := p.2.2.2.1 t ht hk
    have q1 : RQ G r h Bs (G.2.1 t) := t2.kid (by rw [t1]; exact hk) (by
      rw [t1]; unfold kids
      by_cases c : G.1 t = 3
      · rw [if_pos c]; exact List.mem_singleton.mpr rfl
      · rw [if_neg c]; exact List.mem_cons_of_mem _ List.mem_cons_self)
    refine ⟨k1, ⟨p.1 _, q1.cl (p.1 _).symm⟩, fun h3 => ⟨k2 h3, p.1 _, ?_⟩⟩
    have q2 : RQ G r h Bs (G.2.2 t) := t2.kid (by rw [t1]; exact hk) (by
      rw [t1]; unfold kids
      rw [if_neg h3]; exact List.mem_cons_self)
    exact q2.cl (p.1 _).symm
  · have := nodup_len l l1 hd (fun t ht => (m1 t).mpr ⟨(hl t ht).1.1, (hl t ht).2, (hl t ht).1.2⟩)
    omega
  · have := nodup_len l l2 hd (fun t ht => (m2 t).mpr ⟨(hl t ht).1.1, (hl t ht).2, (hl t ht).1.2⟩)
    omega
  · have := nodup_lenP l l3 hd (fun e he => by
      obtain ⟨⟨c1, c2⟩, c3, u, c4, c5⟩ := hl e he
      exact (m3 e).mpr ⟨c1, c2, u, c4, c5, c3⟩)
    omega
/-- one side, when a function is done with -/
theorem FB1.next {B N : Nat} {h h' : Nat → Nat → Prop} {RS : Nat → Nat → Prop} {RF : Nat → Prop} (hF : FB1 B N G r h f RS) (p : PLN N G r h') (hh : ∀ g, g < f → ∀ t, RS g t → ∀ v, hQ r h' t v ↔ hQ r h t v) (hn : FRZ N G r h' RF) : FB1 N N G r h' (f + 1) (fun g => if g = f then RF else RS g) := by
  obtain ⟨f1, f2, f3, f4, f5, f6, f7, f8⟩ := hF
  obtain ⟨p1, p2, p3, p4, p5, p6⟩ := p
  refine ⟨p6, Nat.le_refl _, p2, fun x hx => .inl (by rw [(p3 x hx).1]; exact hx), fun x hx hk => ?_, fun g hg => ?_, fun x u hx hu => ?_, fun x u hx hu => p2 u (p5 x u hu).2⟩
  · have := (p3 x hx).2; omega
  · by_cases e : g = f
    · simp only [if_pos e]; exact hn
    · simp only [if_neg e]; exact (f6 g (by omega)).keepQ f2 (hh g (by omega))
  · have := (p5 x u hu).1; omega
end FROZ
