/-! Graphs of types: kinds, kids, and which are one. -/

def gEq (R : Nat → Nat → Prop) : Prop := (∀ x, R x x) ∧ (∀ x y, R x y → R y x) ∧ (∀ x y z, R x y → R y z → R x z)

abbrev tG := (Nat → Nat) × (Nat → Nat) × (Nat → Nat)

def gKid (G : tG) (R : Nat → Nat → Prop) (x y : Nat) : Prop := R (G.2.1 x) (G.2.1 y) ∧ (G.1 x ≠ 3 → R (G.2.2 x) (G.2.2 y))

def gCl (G : tG) (R : Nat → Nat → Prop) : Prop := ∀ x y, R x y → 2 ≤ G.1 x → G.1 x = G.1 y → gKid G R x y

def gNc (G : tG) (R : Nat → Nat → Prop) : Prop := ∀ x y, R x y → G.1 x ≠ 0 → G.1 y ≠ 0 → G.1 x = G.1 y

def gAc (G : tG) (R : Nat → Nat → Prop) : Prop :=
  ∃ (d : Nat → Nat) (D : Nat), (∀ x, d x ≤ D) ∧ (∀ x y, R x y → d x = d y) ∧ ∀ x, 2 ≤ G.1 x → d (G.2.1 x) < d x ∧ (G.1 x ≠ 3 → d (G.2.2 x) < d x)

def gRt (r : Nat → Nat) (x y : Nat) : Prop := r x = r y

theorem gRt_eq (r : Nat → Nat) : gEq (gRt r) :=
  ⟨fun _ => rfl, fun _ _ h => Eq.symm h, fun _ _ _ h g => Eq.trans h g⟩

/-- a sound partition -/
def gP (G : tG) (r : Nat → Nat) : Prop :=
  (∀ x, r (r x) = r x) ∧ (∀ x, G.1 x ≠ 0 → G.1 (r x) = G.1 x) ∧ gCl G (gRt r) ∧ gAc G (gRt r)

def gUp (r : Nat → Nat) (f t : Nat) : Nat → Nat := fun x => if r x = f then t else r x

/-- in the midst of making two alike -/
def gU (G : tG) (r0 : Nat → Nat) (x1 x2 : Nat) (r : Nat → Nat) (W : List (Nat × Nat)) : Prop :=
  (∀ x, r (r x) = r x) ∧ (∀ x, G.1 x ≠ 0 → G.1 (r x) = G.1 x) ∧
  (∀ R, gEq R → gCl G R → (∀ x y, r0 x = r0 y → R x y) → R x1 x2 → (∀ x y, r x = r y → R x y) ∧ ∀ p, p ∈ W → R p.1 p.2) ∧
  (∀ x y, r0 x = r0 y → r x = r y) ∧
  (∀ R, gEq R → (∀ x y, r x = r y → R x y) → (∀ p, p ∈ W → R p.1 p.2) → R x1 x2) ∧
  (∀ R, gEq R → (∀ x y, r x = r y → R x y) → (∀ p, p ∈ W → R p.1 p.2) →
    ∀ x y, r x = r y → 2 ≤ G.1 x → G.1 x = G.1 y → gKid G R x y) ∧
  (∀ x, (∀ y, r y = r x → r0 y = r0 x) → r x = r0 x)

theorem gU.init {G : tG} {r0 : Nat → Nat} (x1 x2 : Nat) (h : gP G r0) : gU G r0 x1 x2 r0 [(x1, x2)] :=
  ⟨h.1, h.2.1, fun R _ _ h0 hp => ⟨h0, fun p hm => by cases List.mem_singleton.mp hm; exact hp⟩, fun _ _ e => e,
   fun R _ _ hw => hw (x1, x2) (List.mem_singleton.mpr rfl),
   fun R _ h0 _ x y e hk hk' => ⟨h0 _ _ (h.2.2.1 x y e hk hk').1, fun h3 => h0 _ _ ((h.2.2.1 x y e hk hk').2 h3)⟩, fun _ _ => rfl⟩

theorem gU.same {G : tG} {r0 : Nat → Nat} {x1 x2 : Nat} {r : Nat → Nat} {s t : Nat} {W : List (Nat × Nat)}
    (h : gU G r0 x1 x2 r ((s, t) :: W)) (e : r s = r t) : gU G r0 x1 x2 r W := by
  obtain ⟨h1, h2, h3, h4, h5, h6, h7⟩ := h
  refine ⟨h1, h2, fun R a b c d => ⟨(h3 R a b c d).1, fun p hp => (h3 R a b c d).2 p (List.mem_cons_of_mem _ hp)⟩, h4, ?_, ?_, h7⟩
  · intro R a b c
    refine h5 R a b (fun p hp => ?_)
    rcases List.mem_cons.mp hp with he | hp
    · subst he; exact b _ _ e
    · exact c p hp
  · intro R a b c
    refine h6 R a b (fun p hp => ?_)
    rcases List.mem_cons.mp hp with he | hp
    · subst he; exact b _ _ e
    · exact c p hp

theorem gUp_sub {r : Nat → Nat} {f t : Nat} {x y : Nat} (e : r x = r y) : gUp r f t x = gUp r f t y := by
  unfold gUp; rw [e]

theorem gUp_idem {r : Nat → Nat} {f t : Nat} (h1 : ∀ x, r (r x) = r x) (hf : r f = f) (ht : r t = t) (hn : f ≠ t) (x : Nat) :
    gUp r f t (gUp r f t x) = gUp r f t x := by
  unfold gUp
  by_cases hx : r x = f
  · rw [if_pos hx, ht, if_neg (fun h => hn h.symm)]
  · rw [if_neg hx, h1, if_neg hx]

theorem gUp_R {r : Nat → Nat} {f t : Nat} {R : Nat → Nat → Prop} (hR : gEq R) (h1 : ∀ x, r (r x) = r x)
    (h0 : ∀ x y, r x = r y → R x y) (hft : R f t) (x y : Nat) (e : gUp r f t x = gUp r f t y) : R x y := by
  have k : ∀ x, R x (gUp r f t x) := by
    intro x
    unfold gUp
    by_cases hx : r x = f
    · rw [if_pos hx]
      have : R x f := h0 _ _ (by rw [← hx, h1])
      exact hR.2.2 _ _ _ this hft
    · rw [if_neg hx]; exact h0 _ _ (h1 x).symm
  exact hR.2.2 _ _ _ (k x) (e ▸ hR.2.1 _ _ (k y))

/-- the two sides of a made pair -/
theorem gUp_two {r : Nat → Nat} {f t : Nat} {x y : Nat} (ht : r t = t) (e : gUp r f t x = gUp r f t y) :
    r x = r y ∨ (r x = f ∧ r y = t) ∨ (r x = t ∧ r y = f) := by
  unfold gUp at e
  by_cases hx : r x = f
  · by_cases hy : r y = f
    · exact .inl (hx.trans hy.symm)
    · rw [if_pos hx, if_neg hy] at e; exact .inr (.inl ⟨hx, e.symm⟩)
  · by_cases hy : r y = f
    · rw [if_neg hx, if_pos hy] at e; exact .inr (.inr ⟨e, hy⟩)
    · rw [if_neg hx, if_neg hy] at e; exact .inl e

/-- one becomes another: an unknown, or one of the same kind whose kids come to the row -/
theorem gU.step {G : tG} {r0 : Nat → Nat} {x1 x2 : Nat} {r : Nat → Nat} {s t : Nat} {W V : List (Nat × Nat)} {f g : Nat}
    (h : gU G r0 x1 x2 r ((s, t) :: W)) (hfg : (f = r s ∧ g = r t) ∨ (f = r t ∧ g = r s)) (hn : f ≠ g)
    (hk : G.1 f = 0 ∨ (G.1 f = G.1 g))
    (hV : ∀ R, gEq R → gKid G R f g ∨ G.1 f < 2 → (∀ p, p ∈ W → R p.1 p.2) → ∀ p, p ∈ V → R p.1 p.2)
    (hV' : ∀ R, gEq R → (∀ p, p ∈ V → R p.1 p.2) → (2 ≤ G.1 f → gKid G R f g) ∧ (∀ p, p ∈ W → R p.1 p.2)) :
    gU G r0 x1 x2 (gUp r f g) V := by
  obtain ⟨h1, h2, h3, h4, h5, h6, h7⟩ := h
  have hff : r f = f := by rcases hfg with ⟨a, _⟩ | ⟨a, _⟩ <;> rw [a, h1]
  have hgg : r g = g := by rcases hfg with ⟨_, a⟩ | ⟨_, a⟩ <;> rw [a, h1]
  have st : ∀ R, gEq R → (∀ x y, gUp r f g x = gUp r f g y → R x y) → R s t := by
    intro R hR hr
    apply hr
    unfold gUp
    rcases hfg with ⟨a, b⟩ | ⟨a, b⟩
    · rw [if_pos a.symm, ← b, if_neg (fun h => hn h.symm)]
    · rw [if_pos a.symm, ← b, if_neg (fun h => hn h.symm)]
  have hfgR : ∀ R, gEq R → (∀ x y, r x = r y → R x y) → R s t → R f g := by
    intro R hR hr hst
    have a1 : R s (r s) := hr _ _ (h1 s).symm
    have a2 : R t (r t) := hr _ _ (h1 t).symm
    rcases hfg with ⟨a, b⟩ | ⟨a, b⟩
    · rw [a, b]; exact hR.2.2 _ _ _ (hR.2.1 _ _ a1) (hR.2.2 _ _ _ hst a2)
    · rw [a, b]; exact hR.2.2 _ _ _ (hR.2.1 _ _ a2) (hR.2.2 _ _ _ (hR.2.1 _ _ hst) a1)
  refine ⟨gUp_idem h1 hff hgg hn, ?_, ?_, fun x y e => gUp_sub (h4 x y e), ?_, ?_, ?_⟩
  · intro x hx
    have e := h2 x hx
    unfold gUp
    by_cases hxf : r x = f
    · rw [if_pos hxf]
      rw [hxf] at e
      rcases hk with hk | hk
      · exact absurd (e.symm.trans hk) hx
      · rw [← hk, e]
    · rw [if_neg hxf]; exact e
  · intro R hR hc h0 hp
    obtain ⟨a, b⟩ := h3 R hR hc h0 hp
    have hst : R s t := b (s, t) List.mem_cons_self
    have hf := hfgR R hR a hst
    refine ⟨gUp_R hR h1 a hf, ?_⟩
    refine hV R hR ?_ (fun p hp => b p (List.mem_cons_of_mem _ hp))
    by_cases h2 : G.1 f < 2
    · exact .inr h2
    · refine .inl (hc f g hf (Nat.le_of_not_lt h2) ?_)
      rcases hk with hk | hk
      · rw [hk] at h2; exact absurd (by decide) h2
      · exact hk
  · intro R hR hr hv
    obtain ⟨a, b⟩ := hV' R hR hv
    refine h5 R hR (fun x y e => hr x y (gUp_sub e)) (fun p hp => ?_)
    rcases List.mem_cons.mp hp with he | hp
    · subst he; exact st R hR hr
    · exact b p hp
  · intro R hR hr hv x y e hx hxy
    obtain ⟨a, b⟩ := hV' R hR hv
    have hW : ∀ p, p ∈ (s, t) :: W → R p.1 p.2 := by
      intro p hp
      rcases List.mem_cons.mp hp with he | hp
      · subst he; exact st R hR hr
      · exact b p hp
    have h6' := h6 R hR (fun x y e => hr x y (gUp_sub e)) hW
    have key : ∀ x y, r x = f → r y = g → 2 ≤ G.1 x → G.1 x = G.1 y → gKid G R x y := by
      intro x y ex ey hx hxy
      have kx : G.1 f = G.1 x := by rw [← ex]; exact h2 x (by omega)
      have ky : G.1 g = G.1 y := by rw [← ey]; exact h2 y (by omega)
      have c1 := h6' x f (by rw [ex, hff]) hx kx.symm
      have c2 := a (by omega)
      have c3 := h6' g y (by rw [ey, hgg]) (by omega) ky
      refine ⟨hR.2.2 _ _ _ c1.1 (hR.2.2 _ _ _ c2.1 c3.1), fun h => ?_⟩
      exact hR.2.2 _ _ _ (c1.2 h) (hR.2.2 _ _ _ (c2.2 (by omega)) (c3.2 (by omega)))
    rcases gUp_two hgg e with e | ⟨ex, ey⟩ | ⟨ex, ey⟩
    · exact h6' x y e hx hxy
    · exact key x y ex ey hx hxy
    · have := key y x ey ex (by omega) hxy.symm
      exact ⟨hR.2.1 _ _ this.1, fun h => hR.2.1 _ _ (this.2 (by omega))⟩
  · intro x hx
    have ef : gUp r f g f = g := by unfold gUp; rw [if_pos hff]
    have eg : gUp r f g g = g := by unfold gUp; rw [hgg, if_neg (fun h => hn h.symm)]
    by_cases e : gUp r f g x = g
    · exfalso
      have a := hx f (by rw [ef, e])
      have b := hx g (by rw [eg, e])
      have := h4 f g (a.trans b.symm)
      rw [hff, hgg] at this
      exact hn this
    · have hxf : r x ≠ f := fun q => e (by unfold gUp; rw [if_pos q])
      have ex : gUp r f g x = r x := by unfold gUp; rw [if_neg hxf]
      rw [ex]
      exact h7 x (fun y hy => hx y (gUp_sub hy))

/-- what 'alike' must come to, without the ring -/
def alC (G : tG) (r0 : Nat → Nat) (x1 x2 : Nat) (r : Nat → Nat) : Prop :=
  (∀ x, r (r x) = r x) ∧ (∀ x, G.1 x ≠ 0 → G.1 (r x) = G.1 x) ∧ gCl G (gRt r) ∧
  (∀ x y, r0 x = r0 y → r x = r y) ∧ r x1 = r x2 ∧
  (∀ R, gEq R → gCl G R → (∀ x y, r0 x = r0 y → R x y) → R x1 x2 → ∀ x y, r x = r y → R x y) ∧
  (∀ x, (∀ y, r y = r x → r0 y = r0 x) → r x = r0 x)

def alS (G : tG) (r0 : Nat → Nat) (x1 x2 : Nat) (r : Nat → Nat) : Prop := alC G r0 x1 x2 r ∧ gAc G (gRt r)

def alF (G : tG) (r0 : Nat → Nat) (x1 x2 : Nat) : Prop :=
  ∀ R, gEq R → gCl G R → (∀ x y, r0 x = r0 y → R x y) → R x1 x2 → ¬ (gNc G R ∧ gAc G R)

theorem gU.done {G : tG} {r0 : Nat → Nat} {x1 x2 : Nat} {r : Nat → Nat} (h : gU G r0 x1 x2 r []) : alC G r0 x1 x2 r := by
  obtain ⟨h1, h2, h3, h4, h5, h6, h7⟩ := h
  exact ⟨h1, h2, fun x y e hk hk' => h6 (gRt r) (gRt_eq r) (fun _ _ e => e) (fun p hp => by cases hp) x y e hk hk', h4,
    h5 (gRt r) (gRt_eq r) (fun _ _ e => e) (fun p hp => by cases hp), fun R a b c d => (h3 R a b c d).1, h7⟩

theorem gU.clash {G : tG} {r0 : Nat → Nat} {x1 x2 : Nat} {r : Nat → Nat} {s t : Nat} {W : List (Nat × Nat)}
    (h : gU G r0 x1 x2 r ((s, t) :: W)) (hs : G.1 (r s) ≠ 0) (ht : G.1 (r t) ≠ 0) (hn : G.1 (r s) ≠ G.1 (r t)) : alF G r0 x1 x2 := by
  obtain ⟨h1, h2, h3, h4, h5, h6, h7⟩ := h
  intro R hR hc h0 hp ⟨hN, _⟩
  obtain ⟨a, b⟩ := h3 R hR hc h0 hp
  have hst : R s t := b (s, t) List.mem_cons_self
  exact hn (hN _ _ (hR.2.2 _ _ _ (a _ _ (h1 s)) (hR.2.2 _ _ _ hst (a _ _ (h1 t).symm))) hs ht)

theorem alS.noF {G : tG} {r0 : Nat → Nat} {x1 x2 : Nat} {r : Nat → Nat} (h : alS G r0 x1 x2 r) : ¬ alF G r0 x1 x2 := by
  intro hF
  obtain ⟨⟨h1, h2, h3, h4, h5, h6, _⟩, h7⟩ := h
  refine hF (gRt r) (gRt_eq r) h3 h4 h5 ⟨fun x y e hx hy => ?_, h7⟩
  rw [← h2 x hx, ← h2 y hy]; exact congrArg G.1 e

theorem alS.gP {G : tG} {r0 : Nat → Nat} {x1 x2 : Nat} {r : Nat → Nat} (h : alS G r0 x1 x2 r) : gP G r :=
  ⟨h.1.1, h.1.2.1, h.1.2.2.1, h.2⟩

/-- not acyclic: neither is what is larger -/
theorem alC.ring {G : tG} {r0 : Nat → Nat} {x1 x2 : Nat} {r : Nat → Nat} (h : alC G r0 x1 x2 r) (hr : ¬ gAc G (gRt r)) : alF G r0 x1 x2 := by
  obtain ⟨h1, h2, h3, h4, h5, h6, h7⟩ := h
  intro R hR hc h0 hp ⟨_, d, D, hD, hd, hk⟩
  exact hr ⟨d, D, hD, fun x y e => hd x y (h6 R hR hc h0 hp x y e), hk⟩

/-- what is made one lies in whatever set holds the two and is closed -/
theorem alC.within {G : tG} {r0 : Nat → Nat} {x1 x2 : Nat} {r : Nat → Nat} (h : alC G r0 x1 x2 r) (Q : Nat → Prop)
    (hQ : ∀ x y, r x = r y → Q x → Q y) (hq : Q x1) (hK : ∀ x, Q x → 2 ≤ G.1 x → Q (G.2.1 x) ∧ (G.1 x ≠ 3 → Q (G.2.2 x)))
    (h0 : gCl G (gRt r0)) (x y : Nat) (e : r x = r y) : r0 x = r0 y ∨ (Q x ∧ Q y) := by
  obtain ⟨h1, h2, h3, h4, h5, h6, h7⟩ := h
  refine h6 (fun x y => r0 x = r0 y ∨ (Q x ∧ Q y ∧ r x = r y)) ⟨fun _ => .inl rfl, ?_, ?_⟩ ?_ (fun _ _ e => .inl e) (.inr ⟨hq, hQ _ _ h5 hq, h5⟩) x y e
    |>.imp id (fun h => ⟨h.1, h.2.1⟩)
  · rintro x y (h | ⟨a, b, c⟩)
    · exact .inl h.symm
    · exact .inr ⟨b, a, c.symm⟩
  · rintro x y z (h | ⟨a, b, c⟩) (h' | ⟨a', b', c'⟩)
    · exact .inl (h.trans h')
    · exact .inr ⟨hQ _ _ (h4 _ _ h.symm) a', b', (h4 _ _ h).trans c'⟩
    · exact .inr ⟨a, hQ _ _ (h4 _ _ h') b, c.trans (h4 _ _ h')⟩
    · exact .inr ⟨a, b', c.trans c'⟩
  · rintro x y (h | ⟨a, b, c⟩) hk hk'
    · exact ⟨.inl (h0 x y h hk hk').1, fun h3 => .inl ((h0 x y h hk hk').2 h3)⟩
    · have := h3 x y c hk hk'
      exact ⟨.inr ⟨(hK x a hk).1, (hK y b (by omega)).1, this.1⟩, fun h3 => .inr ⟨(hK x a hk).2 h3, (hK y b (by omega)).2 (by omega), this.2 h3⟩⟩

/-- what is not alive stays as it is -/
theorem alC.live {G : tG} {r0 : Nat → Nat} {x1 x2 : Nat} {r : Nat → Nat} (h : alC G r0 x1 x2 r) (h0 : gCl G (gRt r0)) (V : Nat → Prop) (hV : ∀ x y, r0 x = r0 y → V x → V y) (v1 : V x1) (v2 : V x2)
    (hK : ∀ x, V x → 2 ≤ G.1 x → V (G.2.1 x) ∧ (G.1 x ≠ 3 → V (G.2.2 x))) : (∀ x y, r x = r y → r0 x = r0 y ∨ (V x ∧ V y)) ∧ ∀ x, ¬ V x → r x = r0 x := by
  obtain ⟨h1, h2, h3, h4, h5, h6, h7⟩ := h
  have a : ∀ x y, r x = r y → r0 x = r0 y ∨ (V x ∧ V y) := by
    refine h6 (fun x y => r0 x = r0 y ∨ (V x ∧ V y)) ⟨fun _ => .inl rfl, ?_, ?_⟩ ?_ (fun _ _ e => .inl e) (.inr ⟨v1, v2⟩)
    · rintro x y (h | ⟨a, b⟩)
      · exact .inl h.symm
      · exact .inr ⟨b, a⟩
    · rintro x y z (h | ⟨a, b⟩) (h' | ⟨a', b'⟩)
      · exact .inl (h.trans h')
      · exact .inr ⟨hV _ _ h.symm a', b'⟩
      · exact .inr ⟨a, hV _ _ h' b⟩
      · exact .inr ⟨a, b'⟩
    · rintro x y (h | ⟨a, b⟩) hk hk'
      · exact ⟨.inl (h0 x y h hk hk').1, fun h3 => .inl ((h0 x y h hk hk').2 h3)⟩
      · exact ⟨.inr ⟨(hK x a hk).1, (hK y b (by omega)).1⟩, fun h3 => .inr ⟨(hK x a hk).2 h3, (hK y b (by omega)).2 (by omega)⟩⟩
  refine ⟨a, fun x hx => h7 x (fun y hy => ?_)⟩
  rcases a y x hy with q | q
  · exact q
  · exact absurd q.2 hx
