/-! TYPING, BOTH: the state of the types -/
/-- the component's: how many, kinds and parts, roots, held, how many held, stamp; the model's likewise, with two marks; the mates -/
abbrev tyJ : Type := (Nat × tG × (Nat → Nat) × (Nat → Nat → Prop) × Nat × Nat) × (Nat × tG × (Nat → Nat) × (Nat → Nat → Prop) × Nat × Nat × Nat) × (Nat → Nat → Prop)
def TJ0 (K1 K2 : Nat) (T : tyJ) (σ τ : tvS) : Prop :=
  CT K1 K2 T.1.1 T.1.2.1 T.1.2.2.1 T.1.2.2.2.1 T.1.2.2.2.2.1 T.1.2.2.2.2.2 σ ∧ MY T.2.1.1 T.2.1.2.1 T.2.1.2.2.1 T.2.1.2.2.2.1 T.2.1.2.2.2.2.1 T.2.1.2.2.2.2.2.1 T.2.1.2.2.2.2.2.2 τ ∧
  JZ T.1.1 T.1.2.1 T.1.2.2.1 T.1.2.2.2.1 T.2.1.1 T.2.1.2.1 T.2.1.2.2.1 T.2.1.2.2.2.1 T.2.2
/-- one side: what lies below B is done with, what lies above leads above -/
def FB1 (B N : Nat) (G : tG) (r : Nat → Nat) (h : Nat → Nat → Prop) (f : Nat) (RS : Nat → Nat → Prop) : Prop :=
  0 < B ∧ B ≤ N ∧ (∀ x, x < B → r x < B) ∧ (∀ x, B ≤ x → B ≤ r x ∨ r x = 0) ∧ (∀ x, B ≤ x → 2 ≤ G.1 x → (B ≤ G.2.1 x ∨ G.2.1 x = 0) ∧ (G.1 x ≠ 3 → B ≤ G.2.2 x ∨ G.2.2 x = 0)) ∧ (∀ g, g < f → FRZ B G r h (RS g)) ∧ (∀ x u, B ≤ r x → h (r x) u → B ≤ r u ∨ r u = 0) ∧ ∀ x u, r x < B → h (r x) u → r u < B
/-- copies that the model has not made yet -/
def PDK (B N : Nat) (G : tG) (r : Nat → Nat) (h : Nat → Nat → Prop) (Z : Nat → Nat → Prop) (pd : List (Nat × List Nat × (Nat → Nat))) : Prop :=
  (∀ e, e ∈ pd → CPd G r h e.2.1 e.2.2 ∧ ∀ t, t ∈ e.2.1 → t < B ∧ t ≠ 0 ∧ B ≤ e.2.2 t ∧ e.2.2 t < N ∧ ∀ y, ¬ Z (e.2.2 t) y) ∧
  pd.Pairwise (fun e e' => ∀ t t', t ∈ e.2.1 → t' ∈ e'.2.1 → e.2.2 t ≠ e'.2.2 t')
/-- what may yet come: n types, u unknowns, a times alike, rc copies -/
def BDG (n u a rc : Nat) (T : tyJ) : Prop :=
  T.1.1 + n + u ≤ 122000 ∧ T.1.2.2.2.2.2 + 100000 * a ≤ 1000000000 ∧ T.2.1.1 + n + u + 64 * rc ≤ 99000 ∧ ct (fun y => 2 ≤ T.2.1.2.1.1 y) T.2.1.1 + n + 24 * rc ≤ 49990 ∧ T.2.1.2.2.2.2.1 + 100 * rc ≤ 240000 ∧ T.2.1.2.2.2.2.2.1 + 100001 * a + rc ≤ 1000000000 ∧ T.2.1.2.2.2.2.2.2 + 100001 * a + 20000 * rc ≤ 1500000000
def TJ (K1 K2 Bc Bm f : Nat) (Rc Rm : Nat → Nat → Prop) (pd : List (Nat × List Nat × (Nat → Nat))) (n u a rc : Nat) (T : tyJ) (σ τ : tvS) : Prop :=
  TJ0 K1 K2 T σ τ ∧ FB1 Bc T.1.1 T.1.2.1 T.1.2.2.1 T.1.2.2.2.1 f Rc ∧ FB1 Bm T.2.1.1 T.2.1.2.1 T.2.1.2.2.1 T.2.1.2.2.2.1 f Rm ∧ PDK Bc T.1.1 T.1.2.1 T.1.2.2.1 T.1.2.2.2.1 T.2.2 pd ∧ BDG n u a rc T
/-- what stays: mates, and kinds that are known -/
def exT (Bc Bm : Nat) (T T' : tyJ) : Prop := (∀ x y, T.2.2 x y → T'.2.2 x y) ∧ (∀ x, T.1.2.1.1 (T.1.2.2.1 x) ≠ 0 → T'.1.2.1.1 (T'.1.2.2.1 x) = T.1.2.1.1 (T.1.2.2.1 x)) ∧ T.1.1 ≤ T'.1.1 ∧ T.2.1.1 ≤ T'.2.1.1 ∧ (∀ x, x < Bc → T'.1.2.2.1 x = T.1.2.2.1 x) ∧ (∀ x, x < Bm → T'.2.1.2.2.1 x = T.2.1.2.2.1 x) ∧ (∀ x, x < Bc → T'.1.2.1.1 x = T.1.2.1.1 x) ∧ ∀ x, x < Bc → (T'.1.2.1.2.1 x = T.1.2.1.2.1 x ∧ T'.1.2.1.2.2 x = T.1.2.1.2.2 x) ∧ (T.1.2.2.1 x = x → ∀ v, (∃ u, T'.1.2.2.2.1 x u ∧ T'.1.2.2.1 u = v) ↔ ∃ u, T.1.2.2.2.1 x u ∧ T.1.2.2.1 u = v)
theorem exT.refl {Bc Bm : Nat} {T : tyJ} : exT Bc Bm T T := ⟨fun _ _ h => h, fun _ _ => rfl, Nat.le_refl _, Nat.le_refl _, fun _ _ => rfl, fun _ _ => rfl, fun _ _ => rfl, fun _ _ => ⟨⟨rfl, rfl⟩, fun _ _ => Iff.rfl⟩⟩
theorem exT.trans {Bc Bm : Nat} {T T' T'' : tyJ} (h : exT Bc Bm T T') (g : exT Bc Bm T' T'') : exT Bc Bm T T'' := ⟨fun x y q => g.1 x y (h.1 x y q), fun x q => by rw [g.2.1 x (by rw [h.2.1 x q]; exact q), h.2.1 x q], Nat.le_trans h.2.2.1 g.2.2.1, Nat.le_trans h.2.2.2.1 g.2.2.2.1, fun x hx => (g.2.2.2.2.1 x hx).trans (h.2.2.2.2.1 x hx), fun x hx => (g.2.2.2.2.2.1 x hx).trans (h.2.2.2.2.2.1 x hx), fun x hx => (g.2.2.2.2.2.2.1 x hx).trans (h.2.2.2.2.2.2.1 x hx), fun x hx => ⟨⟨(g.2.2.2.2.2.2.2 x hx).1.1.trans (h.2.2.2.2.2.2.2 x hx).1.1, (g.2.2.2.2.2.2.2 x hx).1.2.trans (h.2.2.2.2.2.2.2 x hx).1.2⟩, fun e v => ((g.2.2.2.2.2.2.2 x hx).2 ((h.2.2.2.2.1 x hx).trans e) v).trans ((h.2.2.2.2.2.2.2 x hx).2 e v)⟩⟩
/-- one of the function at hand, or the int -/
def cuN (B x : Nat) : Prop := B ≤ x ∨ x = 0
/-- one side is made alike: what is below stays -/
theorem FB1.alike {B N : Nat} {G : tG} {r r' : Nat → Nat} {h h' : Nat → Nat → Prop} {f : Nat} {RS : Nat → Nat → Prop} {x1 x2 : Nat} (hF : FB1 B N G r h f RS) (hP : gP G r) (ha : alC G r x1 x2 r') (hH : alH r h r' h') (hi1 : ∀ x, G.1 x = 1 ↔ x = 0) (h0 : ∀ u, ¬ h 0 u) (h0' : ∀ u, ¬ h' 0 u)
    (D : Nat → Prop) (hDr : ∀ x y, r x = r y → D x → D y) (hDk : ∀ x, D x → 2 ≤ G.1 x → D (G.2.1 x) ∧ (G.1 x ≠ 3 → D (G.2.2 x))) (d1 : D x1) (d2 : D x2) (c1 : cuN B x1) (c2 : cuN B x2) :
    (FB1 B N G r' h' f RS ∧ (∀ x, x < B → r' x = r x) ∧ ∀ x, x < B → r x = x → ∀ v, (∃ u, h' x u ∧ r' u = v) ↔ ∃ u, h x u ∧ r u = v) ∧ (∀ V : Nat → Prop, V = (fun x => D x ∧ (B ≤ x ∨ r x = 0)) → (∀ x y, r x = r y → V x → V y) ∧ V x1 ∧ V x2 ∧ (∀ x, V x → 2 ≤ G.1 x → V (G.2.1 x) ∧ (G.1 x ≠ 3 → V (G.2.2 x)))) := by
  obtain ⟨f1, f2, f3, f4, f5, f6, f7, f8⟩ := hF
  have k0 : G.1 0 = 1 := (hi1 0).mpr rfl
  have r0 : r 0 = 0 := (hi1 _).mp (by rw [hP.2.1 0 (by omega)]; exact k0)
  have r0' : r' 0 = 0 := (hi1 _).mp (by rw [ha.2.1 0 (by omega)]; exact k0)
  have hVr : ∀ x y, r x = r y → (D x ∧ (B ≤ x ∨ r x = 0)) → (D y ∧ (B ≤ y ∨ r y = 0)) := by
    rintro x y e ⟨q1, q2⟩
    refine ⟨hDr x y e q1, ?_⟩
    rcases q2 with q | q
    · rcases f4 x q with k | k
      · by_cases c : B ≤ y
        · exact .inl c
        · have := f3 y (by omega); omega
      · exact .inr (by omega)
    · exact .inr (by omega)
  have v : ∀ x, D x → cuN B x → (D x ∧ (B ≤ x ∨ r x = 0)) := fun x q1 q2 => ⟨q1, q2.elim .inl (fun q => .inr (by rw [q]; exact r0))⟩
  have hVk : ∀ x, (D x ∧ (B ≤ x ∨ r x = 0)) → 2 ≤ G.1 x → (D (G.2.1 x) ∧ (B ≤ G.2.1 x ∨ r (G.2.1 x) = 0)) ∧ (G.1 x ≠ 3 → (D (G.2.2 x) ∧ (B ≤ G.2.2 x ∨ r (G.2.2 x) = 0))) := by
    rintro x ⟨q1, q2⟩ hk
    have hB : B ≤ x := by
      rcases q2 with q | q
      · exact q
      · have := hP.2.1 x (by omega)
        rw [q, k0] at this; omega
    have a := f5 x hB hk
    have b := hDk x q1 hk
    exact ⟨⟨b.1, a.1.elim .inl (fun q => .inr (by rw [q]; exact r0))⟩, fun h3 => ⟨b.2 h3, (a.2 h3).elim .inl (fun q => .inr (by rw [q]; exact r0))⟩⟩
  obtain ⟨l1, l2⟩ := ha.live hP.2.2.1 (fun x => D x ∧ (B ≤ x ∨ r x = 0)) hVr (v x1 d1 c1) (v x2 d2 c2) hVk
  have z0 : ∀ x, r x = 0 → r' x = 0 := fun x q => by
    have := ha.2.2.2.1 x 0 (by rw [q, r0])
    rw [r0'] at this; exact this
  have low : ∀ x, x < B → r' x < B := by
    intro x hx
    by_cases q : r x = 0
    · rw [z0 x q]; exact f1
    · rw [l2 x (fun k => k.2.elim (fun k => by omega) q)]; exact f3 x hx
  have lowe : ∀ x, x < B → r' x = r x := by
    intro x hx
    by_cases q : r x = 0
    · rw [z0 x q, q]
    · exact l2 x (fun k => k.2.elim (fun k => by omega) q)
  have up : ∀ x, B ≤ x → B ≤ r' x ∨ r' x = 0 := fun x hx => by
    by_cases q : B ≤ r' x
    · exact .inl q
    · right
      rcases l1 x (r' x) (ha.1 x).symm with e | e
      · have := f3 (r' x) (by omega)
        rcases f4 x hx with k | k
        · omega
        · exact z0 x k
      · rcases e.2.2 with k | k
        · omega
        · have := z0 _ k
          rw [ha.1] at this; exact this
  have dn : ∀ x s, r' x < B → r' s = r' x → (∃ u, h' (r' x) u) → s < B ∧ r s = r' x := fun x s hx e ⟨u, hu⟩ => by
    have hs : s < B := by
      apply Classical.byContradiction
      intro k
      rcases up s (by omega) with q | q
      · omega
      · rw [← e, q] at hu; exact h0' u hu
    exact ⟨hs, by rw [← lowe s hs]; exact e⟩
  have lw : ∀ w, r w < B → r' w = r w := fun w hw => by
    by_cases c : w < B
    · exact lowe w c
    · rcases f4 w (by omega) with k | k
      · omega
      · rw [z0 w k, k]
  refine ⟨⟨⟨f1, f2, low, up, f5, fun g hg => (f6 g hg).alike hP ha hH hi1 (fun x => D x ∧ (B ≤ x ∨ r x = 0)) hVr (v x1 d1 c1) (v x2 d2 c2) hVk (fun t ht hne k => ?_) h0 h0', fun x u hx hu => ?_, fun x u hx hu => ?_⟩, lowe, fun x hx e v => ⟨fun ⟨u, hu, eu⟩ => ?_, fun ⟨u, hu, eu⟩ => ?_⟩⟩, ?_⟩
  · have e := ((f6 g hg).1 t ht)
    rcases k.2 with k | k
    · have := e.1; omega
    · rw [e.2.1] at k; exact hne k
  · obtain ⟨s, w, e1, e2, e3⟩ := hH.1 x u hu
    have hs : B ≤ s := by
      apply Classical.byContradiction
      intro k
      have := low s (by omega); omega
    have hrs : B ≤ r s := by
      rcases f4 s hs with k | k
      · exact k
      · have := z0 s k; omega
    rw [← e3]
    rcases f7 s w hrs e2 with k | k
    · refine up w ?_
      apply Classical.byContradiction
      intro k2
      have := f3 w (by omega); omega
    · exact .inr (z0 w k)
  · obtain ⟨s, w, e1, e2, e3⟩ := hH.1 x u hu
    obtain ⟨_, d2⟩ := dn x s hx e1 ⟨u, hu⟩
    have hw := f8 s w (by rw [d2]; exact hx) e2
    rw [← e3, lw w hw]; exact hw
  · have ex : r' x = x := (lowe x hx).trans e
    obtain ⟨s, w, e1, e2, e3⟩ := hH.1 x u (by rw [ex]; exact hu)
    obtain ⟨_, d2⟩ := dn x s (by rw [ex]; exact hx) e1 ⟨u, by rw [ex]; exact hu⟩
    have hw := f8 s w (by rw [d2, ex]; exact hx) e2
    rw [d2, ex] at e2
    exact ⟨w, e2, by rw [← lw w hw, e3]; exact eu⟩
  · have ex : r' x = x := (lowe x hx).trans e
    obtain ⟨u', a1, a2⟩ := hH.2 x u (by rw [e]; exact hu)
    rw [ex] at a1
    have hw := f8 x u (by rw [e]; exact hx) (by rw [e]; exact hu)
    exact ⟨u', a1, by rw [a2, lw u hw]; exact eu⟩
  · intro V hV
    subst hV
    exact ⟨hVr, v x1 d1 c1, v x2 d2 c2, hVk⟩
/-! how a step of typing changes the component's types: what is new and what is made one -/
abbrev yN (T : tyJ) : Nat := T.1.1
abbrev yG (T : tyJ) : tG := T.1.2.1
abbrev yC (T : tyJ) : Nat → Nat := T.1.2.2.1
abbrev yH (T : tyJ) : Nat → Nat → Prop := T.1.2.2.2.1
/-- closed under classes and parts -/
def cl1 (T : tyJ) (P : Nat → Prop) : Prop := (∀ x y, yC T x = yC T y → P x → P y) ∧ (∀ x, x < yN T → P x → 2 ≤ (yG T).1 x → P ((yG T).2.1 x) ∧ ((yG T).1 x ≠ 3 → P ((yG T).2.2 x)))
/-- what there is stays; whatever holds of what is new, of B, and is closed, holds of all that is met -/
def LOC (T T' : tyJ) (B res : Nat → Prop) : Prop :=
  (yN T ≤ yN T' ∧ (∀ x, x < yN T → (yG T').1 x = (yG T).1 x ∧ (yG T').2.1 x = (yG T).2.1 x ∧ (yG T').2.2 x = (yG T).2.2 x) ∧ (∀ x y, yC T x = yC T y → yC T' x = yC T' y) ∧ (∀ s v, yH T (yC T s) v → ∃ u, yH T' (yC T' s) u ∧ yC T' u = yC T' v)) ∧
  ∀ P : Nat → Prop, cl1 T P → (∀ x, yN T ≤ x → P x) → (∀ x, B x → P x) →
    (∀ x, yN T ≤ x → 2 ≤ (yG T').1 x → P ((yG T').2.1 x) ∧ ((yG T').1 x ≠ 3 → P ((yG T').2.2 x))) ∧ (∀ x, res x → P x) ∧
    (∀ t u, yH T' (yC T' t) u → (∃ s v, yC T' s = yC T' t ∧ yH T (yC T s) v ∧ yC T' v = yC T' u) ∨ (yN T ≤ t ∧ P u)) ∧
    ∀ R, gEq R → gCl (yG T') R → (∀ x y, yC T x = yC T y → R x y) → (∀ x y, P x → P y → yC T' x = yC T' y → R x y) → ∀ x y, yC T' x = yC T' y → R x y
theorem LOC.weak {T T' : tyJ} {B res B' res' : Nat → Prop} (h : LOC T T' B res) (hb : ∀ x, B x → B' x) (hr : ∀ x, res' x → res x) : LOC T T' B' res' :=
  ⟨h.1, fun P p1 p2 p3 => by
    obtain ⟨a1, a2, a3, a4⟩ := h.2 P p1 p2 (fun x hx => p3 x (hb x hx))
    exact ⟨a1, fun x hx => a2 x (hr x hx), a3, a4⟩⟩
/-- what is reached from what -/
def clR (T : tyJ) (B res : Nat → Prop) : Prop := ∀ P : Nat → Prop, cl1 T P → (∀ x, yN T ≤ x → P x) → (∀ x, B x → P x) → ∀ x, res x → P x
theorem LOC.same {T T' : tyJ} {B res : Nat → Prop} (e : T'.1 = T.1) (hz : ∀ x, yN T ≤ x → (yG T).1 x = 0) (hr : clR T B res) : LOC T T' B res := by
  unfold LOC yN yG yC yH
  rw [e]
  refine ⟨⟨Nat.le_refl _, fun _ _ => ⟨rfl, rfl, rfl⟩, fun _ _ h => h, fun s v h => ⟨v, h, rfl⟩⟩, fun P p1 p2 p3 => ⟨fun x hx hk => ?_, hr P p1 p2 p3, fun t u h => .inl ⟨t, u, rfl, h, rfl⟩, fun R _ _ h _ => h⟩⟩
  have : T.1.2.1.1 x = 0 := hz x hx
  omega
theorem LOC.trans {T T1 T2 : tyJ} {B B2 res1 res2 : Nat → Prop} (h : LOC T T1 B res1) (e : yC T1 = yC T) (eh : ∀ t u, yH T1 (yC T t) u → yH T (yC T t) u) (h2 : LOC T1 T2 B2 res2) (hB : ∀ x, B2 x → B x ∨ res1 x ∨ yN T ≤ x) : LOC T T2 B (fun x => res1 x ∨ res2 x) := by
  obtain ⟨⟨a1, a2, a3, a4⟩, a5⟩ := h
  obtain ⟨⟨b1, b2, b3, b4⟩, b5⟩ := h2
  refine ⟨⟨by omega, fun x hx => ?_, fun x y q => b3 x y (a3 x y q), fun s v q => ?_⟩, fun P p1 p2 p3 => ?_⟩
  · have q1 := b2 x (by omega)
    have q2 := a2 x hx
    exact ⟨q1.1.trans q2.1, q1.2.1.trans q2.2.1, q1.2.2.trans q2.2.2⟩
  · obtain ⟨u, u1, u2⟩ := a4 s v q
    obtain ⟨w, w1, w2⟩ := b4 s u u1
    exact ⟨w, w1, w2.trans (b3 _ _ u2)⟩
  · obtain ⟨c1, c2, c3, c4⟩ := a5 P p1 p2 p3
    have k1 : cl1 T1 P := by
      refine ⟨fun x y q => p1.1 x y (by rw [e] at q; exact q), fun x hx px hk => ?_⟩
      by_cases q : x < yN T
      · obtain ⟨q1, q2, q3⟩ := a2 x q
        rw [q1] at hk ⊢
        rw [q2, q3]; exact p1.2 x q px hk
      · exact c1 x (by omega) hk
    obtain ⟨d1, d2, d3, d4⟩ := b5 P k1 (fun x hx => p2 x (by omega)) (fun x hx => by
      rcases hB x hx with q | q | q
      · exact p3 x q
      · exact c2 x q
      · exact p2 x q)
    refine ⟨fun x hx hk => ?_, fun x hx => hx.elim (c2 x) (d2 x), fun t u q => ?_, fun R r1 r2 r3 r4 => d4 R r1 r2 (fun x y q => r3 x y (by rw [e] at q; exact q)) r4⟩
    · by_cases q : x < yN T1
      · obtain ⟨q1, q2, q3⟩ := b2 x q
        rw [q1] at hk ⊢
        rw [q2, q3]; exact c1 x hx hk
      · exact d1 x (by omega) hk
    · rcases d3 t u q with ⟨s, v, s1, s2, s3⟩ | ⟨s1, s2⟩
      · rw [e] at s2
        exact .inl ⟨s, v, s1, eh s v s2, s3⟩
      · exact .inr ⟨by omega, s2⟩
/-- one type more -/
theorem LOC.add {Nc k x y Hc S : Nat} {C : tG} {c : Nat → Nat} {hc : Nat → Nat → Prop} {T2 T2' : (Nat × tG × (Nat → Nat) × (Nat → Nat → Prop) × Nat × Nat × Nat) × (Nat → Nat → Prop)} (hz : ∀ x, Nc ≤ x → C.1 x = 0) (h2 : k < 2 ∨ 2 ≤ k) : LOC ((Nc, C, c, hc, Hc, S), T2) ((Nc + 1, gAdd C Nc k x y, c, hc, Hc, S), T2') (fun b => 2 ≤ k ∧ (b = x ∨ (k ≠ 3 ∧ b = y))) (fun b => b = Nc) := by
  have go : ∀ {z : Nat}, z ≠ Nc → (gAdd C Nc k x y).1 z = C.1 z ∧ (gAdd C Nc k x y).2.1 z = C.2.1 z ∧ (gAdd C Nc k x y).2.2 z = C.2.2 z := fun q => ⟨if_neg q, if_neg q, if_neg q⟩
  have gn : (gAdd C Nc k x y).1 Nc = k ∧ (gAdd C Nc k x y).2.1 Nc = x ∧ (gAdd C Nc k x y).2.2 Nc = y := ⟨if_pos rfl, if_pos rfl, if_pos rfl⟩
  refine ⟨⟨Nat.le_succ _, fun z hz => go (by have hz : z < Nc := hz; omega), fun _ _ h => h, fun s v h => ⟨v, h, rfl⟩⟩, fun P p1 p2 p3 => ⟨fun z hz' hk => ?_, fun z hz' => ?_, fun t u h => .inl ⟨t, u, rfl, h, rfl⟩, fun R _ _ h _ => h⟩⟩
  · have hk : 2 ≤ (gAdd C Nc k x y).1 z := hk
    show P ((gAdd C Nc k x y).2.1 z) ∧ ((gAdd C Nc k x y).1 z ≠ 3 → P ((gAdd C Nc k x y).2.2 z))
    by_cases q : z = Nc
    · rw [q, gn.1] at hk
      rw [q, gn.1, gn.2.1, gn.2.2]
      exact ⟨p3 x ⟨hk, .inl rfl⟩, fun h3 => p3 y ⟨hk, .inr ⟨h3, rfl⟩⟩⟩
    · rw [(go q).1, hz z hz'] at hk; omega
  · rw [hz']; exact p2 Nc (Nat.le_refl _)
/-- two are made one -/
theorem LOC.one {Nc Hc S S' x1 x2 : Nat} {C : tG} {c c' : Nat → Nat} {hc hc' : Nat → Nat → Prop} {T2 T2' : (Nat × tG × (Nat → Nat) × (Nat → Nat → Prop) × Nat × Nat × Nat) × (Nat → Nat → Prop)} (hz : ∀ x, Nc ≤ x → C.1 x = 0) (ha : alC C c x1 x2 c') (hH : alH c hc c' hc') : LOC ((Nc, C, c, hc, Hc, S), T2) ((Nc, C, c', hc', Hc, S'), T2') (fun b => b = x1 ∨ b = x2) (fun b => b = x1 ∨ b = x2) := by
  obtain ⟨h1, h2, h3, h4, h5, h6, h7⟩ := ha
  refine ⟨⟨Nat.le_refl _, fun _ _ => ⟨rfl, rfl, rfl⟩, h4, fun s v h => hH.2 s v h⟩, fun P p1 p2 p3 => ⟨fun z hz' hk => ?_, p3, fun t u h => .inl (hH.1 t u h), fun R r1 r2 r3 r4 => ?_⟩⟩
  · have : C.1 z = 0 := hz z hz'
    have hk : 2 ≤ C.1 z := hk
    omega
  · exact h6 R r1 r2 r3 (r4 _ _ (p3 x1 (.inl rfl)) (p3 x2 (.inr rfl)) h5)
/-- a boxed type of a kind, with its parts -/
def bxT (T : tyJ) (x k a b : Nat) : Prop := (yG T).1 (yC T x) = k ∧ yC T ((yG T).2.1 (yC T x)) = yC T a ∧ (k ≠ 3 → yC T ((yG T).2.2 (yC T x)) = yC T b)
theorem bxT.ex {T T' : tyJ} {B res : Nat → Prop} {x k a b : Nat} (h : bxT T x k a b) (hk : 2 ≤ k) (hL : LOC T T' B res) (hz : ∀ x, yN T ≤ x → (yG T).1 x = 0) (g : gP (yG T) (yC T)) (g' : gP (yG T') (yC T')) : bxT T' x k a b := by
  obtain ⟨h1, h2, h3⟩ := h
  obtain ⟨⟨l1, l2, l3, _⟩, _⟩ := hL
  have hr : yC T x < yN T := by
    apply Classical.byContradiction
    intro q
    have := hz _ (Nat.le_of_not_lt q)
    omega
  obtain ⟨e1, e2, e3⟩ := l2 _ hr
  have er : yC T' (yC T x) = yC T' x := l3 _ _ (g.1 x)
  have ek : (yG T').1 (yC T' x) = k := by
    rw [← er, g'.2.1 _ (by rw [e1]; omega), e1]; exact h1
  have cl := g'.2.2.1 (yC T x) (yC T' x) (by show yC T' _ = yC T' (yC T' x); rw [g'.1, er]) (by rw [e1]; omega) (by rw [e1, h1, ek])
  refine ⟨ek, ?_, fun h => ?_⟩
  · have := cl.1
    rw [e2] at this
    exact (Eq.symm this).trans (l3 _ _ h2)
  · have := cl.2 (by rw [e1, h1]; exact h)
    rw [e3] at this
    exact (Eq.symm this).trans (l3 _ _ (h3 h))
/-- what the component's state of types says of itself -/
theorem TJ.c0 {K1 K2 Bc Bm f : Nat} {Rc Rm : Nat → Nat → Prop} {pd : List (Nat × List Nat × (Nat → Nat))} {n u a rc : Nat} {T : tyJ} {σ τ : tvS} (hT : TJ K1 K2 Bc Bm f Rc Rm pd n u a rc T σ τ) : (∀ x, yN T ≤ x → yC T x = x ∧ (yG T).1 x = 0) ∧ (∀ x, x < yN T → yC T x < yN T) ∧ gP (yG T) (yC T) ∧ (∀ x, 2 ≤ (yG T).1 x → (yG T).2.1 x < yN T ∧ ((yG T).1 x ≠ 3 → (yG T).2.2 x < yN T)) ∧ (∀ x u, yH T (yC T x) u → yC T x < yN T ∧ u < yN T) ∧ (∀ x, (yG T).1 x = 1 ↔ x = 0) ∧ yN T ≤ 1000000 := by
  obtain ⟨⟨⟨hl, hv, h1, h2, _, _, _, h6, h7, h8⟩, _⟩, _, _, _, hb, _⟩ := hT
  refine ⟨h1.2.2.2.2.2.1, fun x hx => h1.rlt hx, h6, fun x hx => h1.kid x hx, fun x u hu => ?_, h1.2.2.2.2.2.2.2, by have : T.1.1 + n + u ≤ 122000 := hb; show T.1.1 ≤ _; omega⟩
  have hu : T.1.2.2.2.1 (T.1.2.2.1 x) u := hu
  rw [h8] at hu
  obtain ⟨i, hi, e⟩ := hu
  have hr : T.1.2.2.1 x < T.1.1 := by
    apply Classical.byContradiction
    intro q
    rw [h7 _ (Nat.le_of_not_lt q)] at hi
    cases hi
  refine ⟨hr, ?_⟩
  have := (h2.2.2.2.1 i ((h2.2.2.2.2.1 _ hr (h6.1 x)).2.2.1 i hi)).2
  rw [e] at this; exact this
theorem LOC.l {T T1 T' : tyJ} {B res : Nat → Prop} (e : T1.1 = T.1) (h : LOC T1 T' B res) : LOC T T' B res := by
  unfold LOC cl1 yN yG yC yH at h ⊢
  rw [e] at h
  exact h
theorem LOC.cl {T T' : tyJ} {B B' res : Nat → Prop} (h : LOC T T' B res) (hb : clR T B' B) : LOC T T' B' (fun x => res x ∨ B' x) :=
  ⟨h.1, fun P p1 p2 p3 => by
    obtain ⟨a1, a2, a3, a4⟩ := h.2 P p1 p2 (hb P p1 p2 p3)
    exact ⟨a1, fun x hx => hx.elim (a2 x) (p3 x), a3, a4⟩⟩
/-- a part of a type is reached from it -/
theorem clR.kid {T : tyJ} {x : Nat} (hz : ∀ x, yN T ≤ x → (yG T).1 x = 0) (g : gP (yG T) (yC T)) (hk : 2 ≤ (yG T).1 (yC T x)) {P : Nat → Prop} (h : cl1 T P) (hx : P x) : P ((yG T).2.1 (yC T x)) ∧ ((yG T).1 (yC T x) ≠ 3 → P ((yG T).2.2 (yC T x))) := by
  refine h.2 _ ?_ (h.1 x _ (g.1 x).symm hx) hk
  apply Classical.byContradiction
  intro q
  have := hz _ (Nat.le_of_not_lt q)
  omega
theorem bxT.to {T : tyJ} {x x' k a a' b b' : Nat} (h : bxT T x k a b) (ex : yC T x = yC T x') (ea : yC T a = yC T a') (eb : k ≠ 3 → yC T b = yC T b') : bxT T x' k a' b' := by
  unfold bxT at h ⊢
  rw [← ex, ← ea]
  exact ⟨h.1, h.2.1, fun h3 => (h.2.2 h3).trans (eb h3)⟩
