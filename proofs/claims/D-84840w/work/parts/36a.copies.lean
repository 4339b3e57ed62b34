/-! COPIES, plainly -/
/-- a copy that lies there untouched -/
def CPd (G : tG) (r : Nat → Nat) (h : Nat → Nat → Prop) (SL : List Nat) (im : Nat → Nat) : Prop :=
  (∀ t, t ∈ SL → r t = t ∧ G.1 t ≠ 1 ∧ r (im t) = im t ∧ (∀ y, r y = im t → y = im t) ∧ G.1 (im t) = G.1 t ∧
    (2 ≤ G.1 t → cov G r SL im (G.2.1 t) (G.2.1 (im t)) ∧ (G.1 t ≠ 3 → cov G r SL im (G.2.2 t) (G.2.2 (im t)))) ∧
    (∀ u, h t u → G.1 (r u) ≠ 1 → ∃ v, h (im t) v ∧ cov G r SL im u v) ∧ (∀ v, h (im t) v → ∃ u, h t u ∧ G.1 (r u) ≠ 1 ∧ cov G r SL im u v)) ∧
  (∀ t t', t ∈ SL → t' ∈ SL → im t = im t' → t = t')
theorem cov.to {N0 : Nat} {G0 G : tG} {r : Nat → Nat} {SL : List Nat} {im : Nat → Nat} {u v : Nat} (hu : r u < N0) (hG : ∀ x, x < N0 → G.1 x = G0.1 x) (h : cov G0 r SL im u v) : cov G r SL im u v := by
  unfold cov at h ⊢
  rw [hG _ hu]; exact h
theorem cpI.D {N0 : Nat} {G0 : tG} {r : Nat → Nat} {hl0 : Nat → List Nat} {hv0 : Nat → Nat} {H0 : Nat} {RS : Nat → Prop} {b1 b2 : Nat} (hB : cpB N0 G0 r hl0 hv0 H0 RS b1 b2) (hlt : ∀ x, x < N0 → r x < N0) {N : Nat} {G : tG} {hl : Nat → List Nat} {hv : Nat → Nat} {H : Nat} {im : Nat → Nat} {SL : List Nat} {PL : List (Nat × Nat)} (hI : cpI N0 G0 r hl0 hv0 H0 RS N G hl hv H im SL PL [] []) : CPd G r (hC hl hv) SL im := by
  obtain ⟨i1, i2, i3, i4, i5, i6, i7, i8, i9, i10, i11, i12, i13, i14, i15, i16⟩ := hI
  have hG : ∀ x, x < N0 → G.1 x = G0.1 x := fun x hx => (i10 x hx).1
  refine ⟨fun t ht => ?_, i4⟩
  obtain ⟨t1, t2, t3, t4, t5⟩ := i3 t ht
  obtain ⟨b3, b4, b5, b6⟩ := hB.1 t t1
  obtain ⟨y1, y2, y3⟩ := i8 t ht (fun k => by cases k)
  have g := i10 t b3
  have hltt : hl t = hl0 t := i11 t b3
  refine ⟨b4, by rw [g.1]; exact t2, hB.2.2.2 _ t3, fun y hy => ?_, by rw [g.1]; exact t5, fun hk => ?_, fun u hu hk => ?_, fun v hv' => ?_⟩
  · by_cases e : y < N0
    · have := hlt y e; omega
    · have := hB.2.2.2 y (by omega); omega
  · rw [g.1] at hk
    obtain ⟨c1, c2, c3⟩ := b5 hk
    rw [g.1, g.2.1, g.2.2]
    exact ⟨((y1 hk).1).to (hB.1 _ c2).1 hG, fun h3 => ((y1 hk).2 h3).to (hB.1 _ (c3 h3).2).1 hG⟩
  · obtain ⟨i, hi, e⟩ := hu
    rw [hltt] at hi
    obtain ⟨c1, c2, c3⟩ := b6 i hi
    rw [i12 i c1] at e
    have hr := (hB.1 _ c3).1
    rw [← e, hG _ hr] at hk
    obtain ⟨j, hj, cj⟩ := y2 i hi hk
    exact ⟨hv j, ⟨j, hj, rfl⟩, by rw [← e]; exact cj.to hr hG⟩
  · obtain ⟨j, hj, e⟩ := hv'
    obtain ⟨i, hi, hk, cj⟩ := y3 j hj
    obtain ⟨c1, c2, c3⟩ := b6 i hi
    have hr := (hB.1 _ c3).1
    exact ⟨hv0 i, ⟨i, by rw [hltt]; exact hi, i12 i c1⟩, by rw [hG _ hr]; exact hk, by rw [← e]; exact cj.to hr hG⟩
theorem cpI.gP {N0 : Nat} {G0 : tG} {r : Nat → Nat} {hl0 : Nat → List Nat} {hv0 : Nat → Nat} {H0 : Nat} {RS : Nat → Prop} {b1 b2 : Nat} (hB : cpB N0 G0 r hl0 hv0 H0 RS b1 b2) (hlt : ∀ x, x < N0 → r x < N0) (hk0 : ∀ x, x < N0 → 2 ≤ G0.1 x → G0.2.1 x < N0 ∧ (G0.1 x ≠ 3 → G0.2.2 x < N0)) (hP : gP G0 r) {N : Nat} {G : tG} {hl : Nat → List Nat} {hv : Nat → Nat} {H : Nat} {im : Nat → Nat} {SL : List Nat} {PL : List (Nat × Nat)} (hI : cpI N0 G0 r hl0 hv0 H0 RS N G hl hv H im SL PL [] []) (hz : ∀ x, N ≤ x → G.1 x = 0) : gP G r := by
  obtain ⟨i1, i2, i3, i4, i5, i6, i7, i8, i9, i10, i11, i12, i13, i14, i15, i16⟩ := hI
  obtain ⟨p1, p2, p3, d0, D0, hD, hd, hk⟩ := hP
  have rn : ∀ x, N0 ≤ x → r x = x := hB.2.2.2
  have same : ∀ x y, r x = r y → N0 ≤ x → x = y := by
    intro x y e hx
    rw [rn x hx] at e
    by_cases q : y < N0
    · have := hlt y q; omega
    · rw [rn y (by omega)] at e; exact e
  refine ⟨p1, fun x hx => ?_, fun x y e hx hxy => ?_, ?_⟩
  · by_cases q : x < N0
    · rw [(i10 x q).1] at hx ⊢
      rw [(i10 _ (hlt x q)).1]; exact p2 x hx
    · rw [rn x (by omega)]
  · by_cases q : x < N0
    · have qy : y < N0 := by
        apply Classical.byContradiction
        intro k
        have := same y x (Eq.symm e) (by omega)
        omega
      have := p3 x y e (by rw [(i10 x q).1] at hx; exact hx) (by rw [(i10 x q).1, (i10 y qy).1] at hxy; exact hxy)
      unfold gKid at this ⊢
      rw [(i10 x q).1, (i10 x q).2.1, (i10 y qy).2.1, (i10 x q).2.2, (i10 y qy).2.2]
      exact this
    · have := same x y e (by omega)
      subst this
      exact ⟨rfl, fun _ => rfl⟩
  · let f : Nat → Nat := fun x => if x < N0 then d0 x else @dite Nat (∃ t, t ∈ SL ∧ im t = x) (Classical.propDecidable _) (fun q => d0 q.choose) (fun _ => 0)
    have f1 : ∀ x, x < N0 → f x = d0 x := fun x h => if_pos h
    have f2 : ∀ t, t ∈ SL → f (im t) = d0 t := by
      intro t ht
      have hx : ∃ t', t' ∈ SL ∧ im t' = im t := ⟨t, ht, rfl⟩
      have : ¬ im t < N0 := by have := (i3 t ht).2.2.1; omega
      show (if im t < N0 then _ else _) = _
      rw [if_neg this, dif_pos hx]
      exact congrArg d0 (i4 _ _ hx.choose_spec.1 ht hx.choose_spec.2)
    have f3 : ∀ x, f x ≤ D0 := by
      intro x
      by_cases q : x < N0
      · rw [f1 x q]; exact hD x
      · show (if x < N0 then _ else _) ≤ _
        rw [if_neg q]
        by_cases q2 : ∃ t, t ∈ SL ∧ im t = x
        · rw [dif_pos q2]; exact hD _
        · rw [dif_neg q2]; omega
    refine ⟨f, D0, f3, fun x y e => ?_, fun x hx => ?_⟩
    · by_cases q : x < N0
      · by_cases q' : y < N0
        · rw [f1 x q, f1 y q']; exact hd x y e
        · rw [same y x (Eq.symm e) (by omega)]
      · rw [same x y e (by omega)]
    · by_cases q : x < N0
      · rw [(i10 x q).1] at hx
        have k0 := hk0 x q hx
        rw [(i10 x q).1, (i10 x q).2.1, (i10 x q).2.2, f1 x q, f1 _ k0.1]
        exact ⟨(hk x hx).1, fun h3 => by rw [f1 _ (k0.2 h3)]; exact (hk x hx).2 h3⟩
      · have hxN : x < N := by
          apply Classical.byContradiction
          intro k
          rw [hz x (by omega)] at hx; omega
        obtain ⟨t, ht, e⟩ := i5 x (by omega) hxN
        subst e
        obtain ⟨t1, t2, t3, t4, t5⟩ := i3 t ht
        obtain ⟨b3, b4, b5, b6⟩ := hB.1 t t1
        rw [t5] at hx
        obtain ⟨c1, c2, c3⟩ := b5 hx
        obtain ⟨y1, _⟩ := i8 t ht (fun k => by cases k)
        have low : ∀ u v, cov G0 r SL im u v → RS (r u) → u < N0 → d0 u < d0 t → f v < f (im t) := by
          intro u v cv hr hu hdu
          have e : d0 (r u) = d0 u := hd _ _ (p1 u)
          rw [f2 t ht]
          rcases cv with c | c
          · rw [c.2, f1 _ (hB.1 _ hr).1, e]; exact hdu
          · rw [c.2.2, f2 _ c.2.1, e]; exact hdu
        exact ⟨low _ _ (y1 hx).1 c2 c1 (hk t hx).1, fun h3 => by
          rw [t5] at h3
          exact low _ _ ((y1 hx).2 h3) (c3 h3).2 (c3 h3).1 ((hk t hx).2 h3)⟩
/-- those that are mates in the copies -/
def zC (Z : Nat → Nat → Prop) (Sc : List Nat) (ic : Nat → Nat) (Sm : List Nat) (jm : Nat → Nat) (x y : Nat) : Prop := Z x y ∨ ∃ t s, t ∈ Sc ∧ s ∈ Sm ∧ Z t s ∧ x = ic t ∧ y = jm s
theorem cp_Z {C : tG} {c : Nat → Nat} {hc : Nat → Nat → Prop} {M M' : tG} {m : Nat → Nat} {hm hm' : Nat → Nat → Prop} {Z : Nat → Nat → Prop} {Sc Sm : List Nat} {ic jm : Nat → Nat}
    (hZ : zG C c M m Z) (hH : zH C c hc M m hm Z) (hIc : ∀ x, c (c x) = c x) (hIm : ∀ y, m (m y) = m y) (dC : CPd C c hc Sc ic) (dM : CPd M' m hm' Sm jm)
    (hold : ∀ x y, Z x y → M'.1 (m y) = M.1 (m y) ∧ M'.2.1 (m y) = M.2.1 (m y) ∧ M'.2.2 (m y) = M.2.2 (m y) ∧ ∀ v, hm' (m y) v ↔ hm (m y) v)
    (hint : ∀ y, M'.1 y = 1 ↔ M.1 y = 1) (fc : ∀ t, t ∈ Sc → ∀ y, ¬ Z (ic t) y) (fm : ∀ s, s ∈ Sm → ∀ x, ¬ Z x (jm s)) : zG C c M' m (zC Z Sc ic Sm jm) ∧ zH C c hc M' m hm' (zC Z Sc ic Sm jm) := by
  have cl : ∀ {x y}, Z x y → Z (c x) (m y) := fun h => hZ.2.1 _ _ _ _ h (hIc _) (hIm _)
  have kd : ∀ {x y}, Z x y → C.1 (c x) = M'.1 (m y) := fun {x y} h => by rw [(hold x y h).1]; exact hZ.2.2.1 x y h
  have cz : ∀ {u w v v'}, Z u w → cov C c Sc ic u v → cov M' m Sm jm w v' → zC Z Sc ic Sm jm v v' := by
    intro u w v v' hz a b
    have k := kd hz
    rcases a with ⟨a1, a2⟩ | ⟨a1, a2, a3⟩ <;> rcases b with ⟨b1, b2⟩ | ⟨b1, b2, b3⟩
    · rw [a2, b2]; exact .inl (cl hz)
    · omega
    · omega
    · exact .inr ⟨c u, m w, a2, b2, cl hz, a3, b3⟩
  have nc : ∀ {x y t}, Z x y → t ∈ Sc → c x ≠ ic t := fun {x y t} hz ht e => fc t ht (m y) (by rw [← e]; exact cl hz)
  have nm : ∀ {x y s}, Z x y → s ∈ Sm → m y ≠ jm s := fun {x y s} hz hs e => fm s hs (c x) (by rw [← e]; exact cl hz)
  refine ⟨⟨?_, ?_, ?_, ?_⟩, ?_, ?_⟩
  · rintro x y x' y' (a | ⟨t, s, t1, s1, z1, e1, e2⟩) (b | ⟨t', s', t1', s1', z1', e1', e2'⟩)
    · exact hZ.1 _ _ _ _ a b
    · rw [e1', e2', (dC.1 t' t1').2.2.1, (dM.1 s' s1').2.2.1]
      exact ⟨fun k => absurd k (nc a t1'), fun k => absurd k (nm a s1')⟩
    · rw [e1, e2, (dC.1 t t1).2.2.1, (dM.1 s s1).2.2.1]
      exact ⟨fun k => absurd k.symm (nc b t1), fun k => absurd k.symm (nm b s1)⟩
    · rw [e1, e2, e1', e2', (dC.1 t t1).2.2.1, (dM.1 s s1).2.2.1, (dC.1 t' t1').2.2.1, (dM.1 s' s1').2.2.1]
      have := hZ.1 _ _ _ _ z1 z1'
      rw [(dC.1 t t1).1, (dC.1 t' t1').1, (dM.1 s s1).1, (dM.1 s' s1').1] at this
      exact ⟨fun k => congrArg jm (this.mp (dC.2 _ _ t1 t1' k)), fun k => congrArg ic (this.mpr (dM.2 _ _ s1 s1' k))⟩
  · rintro x y x' y' (a | ⟨t, s, t1, s1, z1, e1, e2⟩) f1 f2
    · exact .inl (hZ.2.1 _ _ _ _ a f1 f2)
    · rw [e1, (dC.1 t t1).2.2.1] at f1
      rw [e2, (dM.1 s s1).2.2.1] at f2
      exact .inr ⟨t, s, t1, s1, z1, (dC.1 t t1).2.2.2.1 _ f1, (dM.1 s s1).2.2.2.1 _ f2⟩
  · rintro x y (a | ⟨t, s, t1, s1, z1, e1, e2⟩)
    · exact kd a
    · rw [e1, e2, (dC.1 t t1).2.2.1, (dM.1 s s1).2.2.1, (dC.1 t t1).2.2.2.2.1, (dM.1 s s1).2.2.2.2.1]
      have := kd z1
      rw [(dC.1 t t1).1, (dM.1 s s1).1] at this; exact this
  · rintro x y (a | ⟨t, s, t1, s1, z1, e1, e2⟩) hk
    · have o := hold x y a
      have := hZ.2.2.2 x y a hk
      rw [o.2.1, o.2.2.1]
      exact ⟨.inl this.1, fun h3 => .inl (this.2 h3)⟩
    · have o := hold t s z1
      rw [(dM.1 s s1).1] at o
      rw [e1, (dC.1 t t1).2.2.1] at hk ⊢
      rw [e2, (dM.1 s s1).2.2.1]
      rw [(dC.1 t t1).2.2.2.2.1] at hk ⊢
      have kk := hZ.2.2.2 t s z1 (by rw [(dC.1 t t1).1]; exact hk)
      have k3 := kd z1
      rw [(dC.1 t t1).1, (dM.1 s s1).1] at kk k3
      rw [← o.2.1, ← o.2.2.1] at kk
      have cc := (dC.1 t t1).2.2.2.2.2.1 hk
      have mm := (dM.1 s s1).2.2.2.2.2.1 (by omega)
      exact ⟨cz kk.1 cc.1 mm.1, fun h3 => cz (kk.2 h3) (cc.2 h3) (mm.2 (by omega))⟩
  · rintro x y u (a | ⟨t, s, t1, s1, z1, e1, e2⟩) hu hk
    · obtain ⟨v, h1, h2⟩ := hH.1 x y u a hu hk
      exact ⟨v, ((hold x y a).2.2.2 v).mpr h1, .inl h2⟩
    · rw [e1, (dC.1 t t1).2.2.1] at hu
      obtain ⟨u0, q1, q2, q3⟩ := (dC.1 t t1).2.2.2.2.2.2.2 u hu
      obtain ⟨v0, q4, q5⟩ := hH.1 t s u0 z1 (by rw [(dC.1 t t1).1]; exact q1) q2
      have o := hold t s z1
      rw [(dM.1 s s1).1] at o q4
      obtain ⟨v, q6, q7⟩ := (dM.1 s s1).2.2.2.2.2.2.1 v0 ((o.2.2.2 v0).mpr q4) (by rw [← kd q5]; exact q2)
      exact ⟨v, by rw [e2, (dM.1 s s1).2.2.1]; exact q6, cz q5 q3 q7⟩
  · rintro x y v (a | ⟨t, s, t1, s1, z1, e1, e2⟩) hv hk
    · obtain ⟨u, h1, h2⟩ := hH.2 x y v a (((hold x y a).2.2.2 v).mp hv) (fun k => hk ((hint _).mpr k))
      exact ⟨u, h1, .inl h2⟩
    · rw [e2, (dM.1 s s1).2.2.1] at hv
      obtain ⟨v0, q1, q2, q3⟩ := (dM.1 s s1).2.2.2.2.2.2.2 v hv
      have o := hold t s z1
      rw [(dM.1 s s1).1] at o
      obtain ⟨u0, q4, q5⟩ := hH.2 t s v0 z1 (by rw [(dM.1 s s1).1]; exact (o.2.2.2 v0).mp q1) (fun k => q2 ((hint _).mpr k))
      rw [(dC.1 t t1).1] at q4
      obtain ⟨u, q6, q7⟩ := (dC.1 t t1).2.2.2.2.2.2.1 u0 q4 (by rw [kd q5]; exact q2)
      exact ⟨u, by rw [e1, (dC.1 t t1).2.2.1]; exact q6, cz q5 q7 q3⟩
