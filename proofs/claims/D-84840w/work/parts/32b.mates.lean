/-! Two graphs of types, held against each other. -/

def zG (C : tG) (c : Nat → Nat) (M : tG) (m : Nat → Nat) (Z : Nat → Nat → Prop) : Prop :=
  (∀ x y x' y', Z x y → Z x' y' → (c x = c x' ↔ m y = m y')) ∧
  (∀ x y x' y', Z x y → c x' = c x → m y' = m y → Z x' y') ∧
  (∀ x y, Z x y → C.1 (c x) = M.1 (m y)) ∧
  (∀ x y, Z x y → 2 ≤ C.1 (c x) → Z (C.2.1 (c x)) (M.2.1 (m y)) ∧ (C.1 (c x) ≠ 3 → Z (C.2.2 (c x)) (M.2.2 (m y))))

def zF (Z : Nat → Nat → Prop) : Nat → Nat → Prop := fun y x => Z x y

theorem zG.flip {C : tG} {c : Nat → Nat} {M : tG} {m : Nat → Nat} {Z : Nat → Nat → Prop} (h : zG C c M m Z) : zG M m C c (zF Z) :=
  ⟨fun x y x' y' a b => (h.1 _ _ _ _ a b).symm, fun x y x' y' a b d => h.2.1 _ _ _ _ a d b, fun x y a => (h.2.2.1 _ _ a).symm,
   fun x y a k => by
     have e := h.2.2.1 _ _ a
     have := h.2.2.2 y x a (by omega)
     exact ⟨this.1, fun h3 => this.2 (by omega)⟩⟩

/-- what the other side's classes make one here -/
def zR (c' : Nat → Nat) (m : Nat → Nat) (Z : Nat → Nat → Prop) (y y' : Nat) : Prop :=
  m y = m y' ∨ ∃ x x', Z x y ∧ Z x' y' ∧ c' x = c' x'

def gB (G : tG) (r : Nat → Nat) : Prop := (∀ x, r (r x) = r x) ∧ (∀ x, G.1 x ≠ 0 → G.1 (r x) = G.1 x) ∧ gCl G (gRt r)

theorem gP.B {G : tG} {r : Nat → Nat} (h : gP G r) : gB G r := ⟨h.1, h.2.1, h.2.2.1⟩

theorem alC.B {G : tG} {r0 : Nat → Nat} {x1 x2 : Nat} {r : Nat → Nat} (h : alC G r0 x1 x2 r) : gB G r := ⟨h.1, h.2.1, h.2.2.1⟩

theorem zR_eq {C : tG} {c : Nat → Nat} {M : tG} {m : Nat → Nat} {Z : Nat → Nat → Prop} {c' : Nat → Nat} (hZ : zG C c M m Z)
    (hs : ∀ x y, c x = c y → c' x = c' y) : gEq (zR c' m Z) := by
  refine ⟨fun _ => .inl rfl, ?_, ?_⟩
  · rintro y y' (h | ⟨x, x', a, b, e⟩)
    · exact .inl h.symm
    · exact .inr ⟨x', x, b, a, e.symm⟩
  · rintro y y' z (h | ⟨x, x', a, b, e⟩) (h' | ⟨w, w', a', b', e'⟩)
    · exact .inl (h.trans h')
    · exact .inr ⟨w, w', hZ.2.1 _ _ _ _ a' rfl h, b', e'⟩
    · exact .inr ⟨x, x', a, hZ.2.1 _ _ _ _ b rfl h'.symm, e⟩
    · exact .inr ⟨x, w', a, b', e.trans ((hs _ _ ((hZ.1 _ _ _ _ b a').mpr rfl)).trans e')⟩

theorem zR_kid {C : tG} {c : Nat → Nat} {M : tG} {m : Nat → Nat} {Z : Nat → Nat → Prop} {c' : Nat → Nat} (hZ : zG C c M m Z)
    (hB : gB M m) (hI : ∀ x, c (c x) = c x) (hs : ∀ x y, c x = c y → c' x = c' y) (hB' : gB C c') : gCl M (zR c' m Z) := by
  have hE := zR_eq hZ hs
  rintro y y' (h | ⟨x, x', a, b, e⟩) hk hk'
  · have := hB.2.2 y y' h hk hk'
    exact ⟨.inl this.1, fun h3 => .inl (this.2 h3)⟩
  · have k1 : M.1 (m y) = M.1 y := hB.2.1 y (by omega)
    have k2 : M.1 (m y') = M.1 y' := hB.2.1 y' (by omega)
    have k3 := hZ.2.2.1 _ _ a
    have k4 := hZ.2.2.1 _ _ b
    have z1 := hZ.2.2.2 _ _ a (by omega)
    have z2 := hZ.2.2.2 _ _ b (by omega)
    have m1 := hB.2.2 y (m y) (hB.1 y).symm hk k1.symm
    have m2 := hB.2.2 (m y') y' (hB.1 y') (by omega) k2
    have cc := hB'.2.2 (c x) (c x') ((hs _ _ (hI x)).trans (e.trans (hs _ _ (hI x').symm))) (by omega) (by omega)
    refine ⟨hE.2.2 _ _ _ (.inl m1.1) (hE.2.2 _ _ _ (.inr ⟨_, _, z1.1, z2.1, cc.1⟩) (.inl m2.1)), fun h3 => ?_⟩
    exact hE.2.2 _ _ _ (.inl (m1.2 h3)) (hE.2.2 _ _ _ (.inr ⟨_, _, z1.2 (by omega), z2.2 (by omega), cc.2 (by omega)⟩) (.inl (m2.2 (by omega))))

/-- if one side can make the two alike, so can the other -/
theorem al_ex {C : tG} {c : Nat → Nat} {M : tG} {m : Nat → Nat} {Z : Nat → Nat → Prop} {x1 x2 y1 y2 : Nat} {c' : Nat → Nat}
    (hZ : zG C c M m Z) (hI : ∀ x, c (c x) = c x) (hM : gP M m) (h : alS C c x1 x2 c') (z1 : Z x1 y1) (z2 : Z x2 y2) : ¬ alF M m y1 y2 := by
  intro hF
  have hs := h.1.2.2.2.1
  have hB := h.1.B
  have kk : ∀ x, C.1 (c x) ≠ 0 → C.1 (c' x) = C.1 (c x) := by
    intro x hx
    rw [← hB.2.1 (c x) hx]
    exact congrArg C.1 (hs _ _ (hI x)).symm
  refine hF (zR c' m Z) (zR_eq hZ hs) (zR_kid hZ hM.B hI hs hB) (fun _ _ e => .inl e) (.inr ⟨_, _, z1, z2, h.1.2.2.2.2.1⟩) ⟨?_, ?_⟩
  · rintro y y' (e | ⟨x, x', a, b, e⟩) hk hk'
    · rw [← hM.2.1 y hk, ← hM.2.1 y' hk', e]
    · have k1 := hM.2.1 y hk
      have k2 := hM.2.1 y' hk'
      have k3 := hZ.2.2.1 _ _ a
      have k4 := hZ.2.2.1 _ _ b
      have k5 := kk x (by omega)
      have k6 := kk x' (by omega)
      rw [e] at k5; omega
  · obtain ⟨d, D, hD, hd, hk⟩ := h.2
    obtain ⟨d0, D0, hD0, hd0, hk0⟩ := hM.2.2.2
    have dz : ∀ x x' y, Z x y → Z x' y → d x = d x' := fun x x' y a b => hd _ _ (hs _ _ ((hZ.1 _ _ _ _ a b).mpr rfl))
    let f : Nat → Nat := fun y => @dite Nat (∃ x, Z x y) (Classical.propDecidable _) (fun hy => d hy.choose) (fun _ => D + 1 + d0 y)
    have f1 : ∀ x y, Z x y → f y = d x := by
      intro x y h
      have hy : ∃ x, Z x y := ⟨x, h⟩
      exact (@dif_pos _ (Classical.propDecidable _) hy _ _ _).trans (dz _ _ _ hy.choose_spec h)
    have f2 : ∀ y, (¬ ∃ x, Z x y) → f y = D + 1 + d0 y := by
      intro y hy
      exact @dif_neg _ (Classical.propDecidable _) hy _ _ _
    refine ⟨f, D + 1 + D0, ?_, ?_, ?_⟩
    · intro y
      by_cases hy : ∃ x, Z x y
      · rw [f1 _ y hy.choose_spec]; have := hD hy.choose; omega
      · rw [f2 y hy]; have := hD0 y; omega
    · rintro y y' (e | ⟨x, x', a, b, e⟩)
      · by_cases hy : ∃ x, Z x y
        · obtain ⟨x, hx⟩ := hy
          rw [f1 x y hx, f1 x y' (hZ.2.1 _ _ _ _ hx rfl e.symm)]
        · have hy' : ¬ ∃ x, Z x y' := fun ⟨x, hx⟩ => hy ⟨x, hZ.2.1 _ _ _ _ hx rfl e⟩
          rw [f2 y hy, f2 y' hy', hd0 y y' e]
      · rw [f1 x y a, f1 x' y' b]; exact hd _ _ e
    · have low : ∀ y z, ((∃ x, Z x y) → ∃ x, Z x z) → (∀ x w, Z x y → Z w z → d w < d x) → d0 z < d0 y → f z < f y := by
        intro y z h1 h2 h3
        by_cases hy : ∃ x, Z x y
        · obtain ⟨w, hw⟩ := h1 hy
          obtain ⟨x, hx⟩ := hy
          rw [f1 x y hx, f1 w z hw]; exact h2 x w hx hw
        · by_cases hz : ∃ x, Z x z
          · obtain ⟨w, hw⟩ := hz
            rw [f2 y hy, f1 w z hw]; have := hD w; omega
          · rw [f2 y hy, f2 z hz]; omega
      intro y hy
      have k1 := hM.2.1 y (by omega)
      have m1 := hM.2.2.1 y (m y) (hM.1 y).symm hy k1.symm
      have key : ∀ x, Z x y → 2 ≤ C.1 (c x) ∧ Z (C.2.1 (c x)) (M.2.1 y) ∧ (M.1 y ≠ 3 → Z (C.2.2 (c x)) (M.2.2 y)) ∧ d (c x) = d x := by
        intro x hx
        have k3 := hZ.2.2.1 _ _ hx
        have z := hZ.2.2.2 _ _ hx (by omega)
        exact ⟨by omega, hZ.2.1 _ _ _ _ z.1 rfl m1.1, fun h3 => hZ.2.1 _ _ _ _ (z.2 (by omega)) rfl (m1.2 h3), hd _ _ (hs _ _ (hI x))⟩
      refine ⟨low y _ (fun ⟨x, hx⟩ => ⟨_, (key x hx).2.1⟩) ?_ (hk0 y hy).1, fun h3 => low y _ (fun ⟨x, hx⟩ => ⟨_, (key x hx).2.2.1 h3⟩) ?_ ((hk0 y hy).2 h3)⟩
      · intro x w hx hw
        obtain ⟨a, b, _, e⟩ := key x hx
        rw [dz _ _ _ hw b, ← e]; exact (hk _ a).1
      · intro x w hx hw
        obtain ⟨a, _, b, e⟩ := key x hx
        have := hZ.2.2.1 _ _ hx
        rw [dz _ _ _ hw (b h3), ← e]; exact (hk _ a).2 (by omega)

def zN (Z : Nat → Nat → Prop) (c' m' : Nat → Nat) (x y : Nat) : Prop := ∃ x0 y0, Z x0 y0 ∧ c' x = c' x0 ∧ m' y = m' y0

/-- what becomes one with something known is known, and its fellow becomes one with that one's -/
theorem al_mate {C : tG} {c : Nat → Nat} {M : tG} {m : Nat → Nat} {Z : Nat → Nat → Prop} {x1 x2 y1 y2 : Nat} {c' m' : Nat → Nat}
    (hZ : zG C c M m Z) (hC : gP C c) (hM : gP M m) (h : alC C c x1 x2 c') (g : alC M m y1 y2 m') (z1 : Z x1 y1) (z2 : Z x2 y2)
    {x x' y' : Nat} (e : c' x = c' x') (hz : Z x' y') : ∃ y, Z x y ∧ m' y = m' y' := by
  have hF := hZ.flip
  have hs := g.2.2.2.1
  have := h.2.2.2.2.2.1 (zR m' c (zF Z)) (zR_eq hF hs) (zR_kid hF hC.B hM.1 hs g.B) (fun _ _ e => .inl e) (.inr ⟨_, _, z1, z2, g.2.2.2.2.1⟩) x x' e
  rcases this with e | ⟨y, y'', a, b, e⟩
  · exact ⟨y', hZ.2.1 _ _ _ _ hz e rfl, rfl⟩
  · exact ⟨y, a, e.trans (hs _ _ ((hZ.1 _ _ _ _ b hz).mp rfl))⟩

theorem al_zN {C : tG} {c : Nat → Nat} {M : tG} {m : Nat → Nat} {Z : Nat → Nat → Prop} {x1 x2 y1 y2 : Nat} {c' m' : Nat → Nat}
    (hZ : zG C c M m Z) (hC : gP C c) (hM : gP M m) (h : alC C c x1 x2 c') (g : alC M m y1 y2 m') (z1 : Z x1 y1) (z2 : Z x2 y2) :
    zG C c' M m' (zN Z c' m') := by
  have hF := hZ.flip
  have mate : ∀ {x x' y'}, c' x = c' x' → Z x' y' → ∃ y, Z x y ∧ m' y = m' y' := fun e hz => al_mate hZ hC hM h g z1 z2 e hz
  have mate' : ∀ {y y' x'}, m' y = m' y' → Z x' y' → ∃ x, Z x y ∧ c' x = c' x' := fun e hz => al_mate hF hM hC g h z1 z2 e hz
  have hs := h.2.2.2.1
  have gs := g.2.2.2.1
  refine ⟨?_, ?_, ?_, ?_⟩
  · rintro x y x' y' ⟨a, b, z, e1, e2⟩ ⟨a', b', z', e1', e2'⟩
    rw [e1, e1', e2, e2']
    constructor
    · intro e
      obtain ⟨w, hw, ew⟩ := mate e z'
      exact (gs _ _ ((hZ.1 _ _ _ _ z hw).mp rfl)).trans ew
    · intro e
      obtain ⟨w, hw, ew⟩ := mate' e z'
      exact (hs _ _ ((hZ.1 _ _ _ _ z hw).mpr rfl)).trans ew
  · rintro x y x' y' ⟨a, b, z, e1, e2⟩ f1 f2
    exact ⟨a, b, z, f1.trans e1, f2.trans e2⟩
  · rintro x y ⟨a, b, z, e1, e2⟩
    have k1 : C.1 (c' x) ≠ 0 → C.1 (c' x) = M.1 (m' y) := by
      intro hk
      obtain ⟨w, hw, ew⟩ := mate (x := c' x) ((h.1 x).trans e1) z
      have a1 := hC.2.1 (c' x) hk
      have a2 := hZ.2.2.1 _ _ hw
      have a3 := g.2.1 (m w) (by omega)
      rw [gs _ _ (hM.1 w), ew, ← e2] at a3
      omega
    have k2 : M.1 (m' y) ≠ 0 → C.1 (c' x) = M.1 (m' y) := by
      intro hk
      obtain ⟨w, hw, ew⟩ := mate' (y := m' y) ((g.1 y).trans e2) z
      have a1 := hM.2.1 (m' y) hk
      have a2 := hZ.2.2.1 _ _ hw
      have a3 := h.2.1 (c w) (by omega)
      rw [hs _ _ (hC.1 w), ew, ← e1] at a3
      omega
    omega
  · rintro x y ⟨a, b, z, e1, e2⟩ hk
    obtain ⟨w, hw, ew⟩ := mate (x := c' x) ((h.1 x).trans e1) z
    have a1 := hC.2.1 (c' x) (by omega)
    have a2 := hZ.2.2.1 _ _ hw
    have a3 := g.2.1 (m w) (by omega)
    have em : m' (m w) = m' y := by rw [gs _ _ (hM.1 w), ew, ← e2]
    rw [em] at a3
    have zk := hZ.2.2.2 _ _ hw (by omega)
    have c1 := h.2.2.1 (c' x) (c (c' x)) (hs _ _ (hC.1 _).symm) hk a1.symm
    have m1 := g.2.2.1 (m' y) (m w) (by show m' (m' y) = m' (m w); rw [g.1, em]) (by omega) (by omega)
    exact ⟨⟨_, _, zk.1, c1.1, m1.1⟩, fun h3 => ⟨_, _, zk.2 (by omega), c1.2 h3, m1.2 (by omega)⟩⟩

/-- what arrows hold, on both sides -/
def zH (C : tG) (c : Nat → Nat) (hc : Nat → Nat → Prop) (M : tG) (m : Nat → Nat) (hm : Nat → Nat → Prop) (Z : Nat → Nat → Prop) : Prop :=
  (∀ x y u, Z x y → hc (c x) u → C.1 (c u) ≠ 1 → ∃ v, hm (m y) v ∧ Z u v) ∧
  (∀ x y v, Z x y → hm (m y) v → M.1 (m v) ≠ 1 → ∃ u, hc (c x) u ∧ Z u v)

theorem zH.flip {C : tG} {c : Nat → Nat} {M : tG} {m : Nat → Nat} {Z : Nat → Nat → Prop} {hc hm : Nat → Nat → Prop}
    (h : zH C c hc M m hm Z) : zH M m hm C c hc (zF Z) := ⟨fun x y u a b d => h.2 _ _ _ a b d, fun x y v a b d => h.1 _ _ _ a b d⟩

/-- how what is held goes over when classes become one -/
def alH (r : Nat → Nat) (h : Nat → Nat → Prop) (r' : Nat → Nat) (h' : Nat → Nat → Prop) : Prop :=
  (∀ t u, h' (r' t) u → ∃ s v, r' s = r' t ∧ h (r s) v ∧ r' v = r' u) ∧
  (∀ s v, h (r s) v → ∃ u, h' (r' s) u ∧ r' u = r' v)

theorem al_zH1 {C : tG} {c : Nat → Nat} {M : tG} {m : Nat → Nat} {Z : Nat → Nat → Prop} {x1 x2 y1 y2 : Nat} {c' m' : Nat → Nat}
    {hc hm hc' hm' : Nat → Nat → Prop}
    (hZ : zG C c M m Z) (hC : gP C c) (hM : gP M m) (h : alC C c x1 x2 c') (g : alC M m y1 y2 m') (z1 : Z x1 y1) (z2 : Z x2 y2)
    (hH : zH C c hc M m hm Z) (a : alH c hc c' hc') (b : alH m hm m' hm') :
    ∀ x y u, zN Z c' m' x y → hc' (c' x) u → C.1 (c' u) ≠ 1 → ∃ v, hm' (m' y) v ∧ zN Z c' m' u v := by
  rintro x y u ⟨x0, y0, z, e1, e2⟩ hu hk
  obtain ⟨s, v, es, hv, ev⟩ := a.1 x u hu
  obtain ⟨w, hw, ew⟩ := al_mate hZ hC hM h g z1 z2 (es.trans e1) z
  have kv : C.1 (c v) ≠ 1 := by
    intro h1
    have := h.2.1 (c v) (by omega)
    rw [h.2.2.2.1 _ _ (hC.1 v), ev] at this
    omega
  obtain ⟨q, hq, zq⟩ := hH.1 s w v hw hv kv
  obtain ⟨p, hp, ep⟩ := b.2 w q hq
  rw [ew, ← e2] at hp
  exact ⟨p, hp, v, q, zq, ev.symm, ep⟩

theorem al_zH {C : tG} {c : Nat → Nat} {M : tG} {m : Nat → Nat} {Z : Nat → Nat → Prop} {x1 x2 y1 y2 : Nat} {c' m' : Nat → Nat}
    {hc hm hc' hm' : Nat → Nat → Prop}
    (hZ : zG C c M m Z) (hC : gP C c) (hM : gP M m) (h : alC C c x1 x2 c') (g : alC M m y1 y2 m') (z1 : Z x1 y1) (z2 : Z x2 y2)
    (hH : zH C c hc M m hm Z) (a : alH c hc c' hc') (b : alH m hm m' hm') : zH C c' hc' M m' hm' (zN Z c' m') := by
  refine ⟨al_zH1 hZ hC hM h g z1 z2 hH a b, ?_⟩
  rintro x y v ⟨x0, y0, z, e1, e2⟩ hv hk
  obtain ⟨u, hu, p, q, zz, e3, e4⟩ := al_zH1 hZ.flip hM hC g h z1 z2 hH.flip b a y x v ⟨y0, x0, z, e2, e1⟩ hv hk
  exact ⟨u, hu, q, p, zz, e4, e3⟩
