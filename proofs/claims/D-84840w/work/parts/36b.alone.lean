/-! ONE MORE TYPE, AND COPIES THAT ARE LEFT ALONE, plainly -/
theorem gAdd_o {G : tG} {N k a b x : Nat} (h : x ≠ N) : (gAdd G N k a b).1 x = G.1 x ∧ (gAdd G N k a b).2.1 x = G.2.1 x ∧ (gAdd G N k a b).2.2 x = G.2.2 x := ⟨if_neg h, if_neg h, if_neg h⟩
theorem gAdd_n {G : tG} {N k a b : Nat} : (gAdd G N k a b).1 N = k ∧ (gAdd G N k a b).2.1 N = a ∧ (gAdd G N k a b).2.2 N = b := ⟨if_pos rfl, if_pos rfl, if_pos rfl⟩
theorem gP.add {G : tG} {r : Nat → Nat} {N k a b : Nat} (h : gP G r) (hr : r N = N) (hu : ∀ x, r x = N → x = N) (hk : ∀ x, 2 ≤ G.1 x → G.2.1 x ≠ N ∧ (G.1 x ≠ 3 → G.2.2 x ≠ N)) (ha : 2 ≤ k → a ≠ N ∧ (k ≠ 3 → b ≠ N)) : gP (gAdd G N k a b) r := by
  obtain ⟨p1, p2, p3, d0, D0, hD, hd, hkk⟩ := h
  refine ⟨p1, fun x hx => ?_, fun x y e hx hxy => ?_, ?_⟩
  · by_cases q : x = N
    · rw [q, hr]
    · have q2 : r x ≠ N := fun e => q (hu x e)
      rw [(gAdd_o q).1] at hx ⊢
      rw [(gAdd_o q2).1]; exact p2 x hx
  · have e : r x = r y := e
    by_cases q : x = N
    · have : y = N := hu y (by rw [← e, q, hr])
      rw [q, this]; exact ⟨rfl, fun _ => rfl⟩
    · have qy : y ≠ N := fun k => q (hu x (by rw [e, k, hr]))
      rw [(gAdd_o q).1] at hx
      rw [(gAdd_o q).1, (gAdd_o qy).1] at hxy
      have := p3 x y e hx hxy
      unfold gKid at this ⊢
      rw [(gAdd_o q).1, (gAdd_o q).2.1, (gAdd_o qy).2.1, (gAdd_o q).2.2, (gAdd_o qy).2.2]
      exact this
  · refine ⟨fun x => if x = N then D0 + 1 else d0 x, D0 + 1, fun x => ?_, fun x y e => ?_, fun x hx => ?_⟩
    · show (if x = N then D0 + 1 else d0 x) ≤ _
      have := hD x
      split <;> omega
    · have e : r x = r y := e
      show (if x = N then D0 + 1 else d0 x) = (if y = N then D0 + 1 else d0 y)
      by_cases q : x = N
      · rw [if_pos q, if_pos (hu y (by rw [← e, q, hr]))]
      · rw [if_neg q, if_neg (fun k => q (hu x (by rw [e, k, hr])))]; exact hd x y e
    · by_cases q : x = N
      · subst q
        rw [gAdd_n.1] at hx ⊢
        rw [gAdd_n.2.1, gAdd_n.2.2]
        have z := ha hx
        refine ⟨?_, fun h3 => ?_⟩
        · show (if a = x then D0 + 1 else d0 a) < (if x = x then D0 + 1 else d0 x)
          rw [if_neg z.1, if_pos rfl]; have := hD a; omega
        · show (if b = x then D0 + 1 else d0 b) < (if x = x then D0 + 1 else d0 x)
          rw [if_neg (z.2 h3), if_pos rfl]; have := hD b; omega
      · rw [(gAdd_o q).1] at hx ⊢
        rw [(gAdd_o q).2.1, (gAdd_o q).2.2]
        have z := hk x hx
        refine ⟨?_, fun h3 => ?_⟩
        · show (if G.2.1 x = N then D0 + 1 else d0 (G.2.1 x)) < (if x = N then D0 + 1 else d0 x)
          rw [if_neg z.1, if_neg q]; exact (hkk x hx).1
        · show (if G.2.2 x = N then D0 + 1 else d0 (G.2.2 x)) < (if x = N then D0 + 1 else d0 x)
          rw [if_neg (z.2 h3), if_neg q]; exact (hkk x hx).2 h3
def zA (Z : Nat → Nat → Prop) (n n' : Nat) (x y : Nat) : Prop := Z x y ∨ (x = n ∧ y = n')
theorem zG.add {C : tG} {c : Nat → Nat} {hc : Nat → Nat → Prop} {M : tG} {m : Nat → Nat} {hm : Nat → Nat → Prop} {Z : Nat → Nat → Prop} {n n' k a b a' b' : Nat} (hZ : zG C c M m Z) (hH : zH C c hc M m hm Z) (hIc : ∀ x, c (c x) = c x) (hIm : ∀ y, m (m y) = m y)
    (cn : c n = n) (cu : ∀ x, c x = n → x = n) (mn : m n' = n') (mu : ∀ y, m y = n' → y = n') (fc : ∀ y, ¬ Z n y) (fm : ∀ x, ¬ Z x n') (k1 : k ≠ 1) (c0 : C.1 n = 0) (m0 : M.1 n' = 0) (h0 : ∀ u, ¬ hc n u) (h0' : ∀ v, ¬ hm n' v)
    (hk : 2 ≤ k → Z a a' ∧ (k ≠ 3 → Z b b')) : zG (gAdd C n k a b) c (gAdd M n' k a' b') m (zA Z n n') ∧ zH (gAdd C n k a b) c hc (gAdd M n' k a' b') m hm (zA Z n n') := by
  have nc : ∀ {x y}, Z x y → c x ≠ n := fun {x y} hz e => fc (m y) (by rw [← e]; exact hZ.2.1 _ _ _ _ hz (hIc _) (hIm _))
  have nm : ∀ {x y}, Z x y → m y ≠ n' := fun {x y} hz e => fm (c x) (by rw [← e]; exact hZ.2.1 _ _ _ _ hz (hIc _) (hIm _))
  have int : ∀ y, (gAdd C n k a b).1 y = 1 ↔ C.1 y = 1 := fun y => by
    by_cases q : y = n
    · rw [q, gAdd_n.1, c0]; exact ⟨fun h => absurd h k1, fun h => by omega⟩
    · rw [(gAdd_o q).1]
  have int' : ∀ y, (gAdd M n' k a' b').1 y = 1 ↔ M.1 y = 1 := fun y => by
    by_cases q : y = n'
    · rw [q, gAdd_n.1, m0]; exact ⟨fun h => absurd h k1, fun h => by omega⟩
    · rw [(gAdd_o q).1]
  refine ⟨⟨?_, ?_, ?_, ?_⟩, ?_, ?_⟩
  · rintro x y x' y' (p | ⟨e1, e2⟩) (q | ⟨e1', e2'⟩)
    · exact hZ.1 _ _ _ _ p q
    · rw [e1', e2', cn, mn]; exact ⟨fun h => absurd h (nc p), fun h => absurd h (nm p)⟩
    · rw [e1, e2, cn, mn]; exact ⟨fun h => absurd h.symm (nc q), fun h => absurd h.symm (nm q)⟩
    · rw [e1, e2, e1', e2']; exact ⟨fun _ => rfl, fun _ => rfl⟩
  · rintro x y x' y' (p | ⟨e1, e2⟩) f1 f2
    · exact .inl (hZ.2.1 _ _ _ _ p f1 f2)
    · rw [e1, cn] at f1
      rw [e2, mn] at f2
      exact .inr ⟨cu _ f1, mu _ f2⟩
  · rintro x y (p | ⟨e1, e2⟩)
    · rw [(gAdd_o (nc p)).1, (gAdd_o (nm p)).1]; exact hZ.2.2.1 x y p
    · rw [e1, e2, cn, mn, gAdd_n.1, gAdd_n.1]
  · rintro x y (p | ⟨e1, e2⟩) h2
    · rw [(gAdd_o (nc p)).1] at h2 ⊢
      rw [(gAdd_o (nc p)).2.1, (gAdd_o (nm p)).2.1, (gAdd_o (nc p)).2.2, (gAdd_o (nm p)).2.2]
      have := hZ.2.2.2 x y p h2
      exact ⟨.inl this.1, fun h3 => .inl (this.2 h3)⟩
    · rw [e1, cn, gAdd_n.1] at h2 ⊢
      rw [e2, mn, gAdd_n.2.1, gAdd_n.2.1, gAdd_n.2.2, gAdd_n.2.2]
      exact ⟨.inl (hk h2).1, fun h3 => .inl ((hk h2).2 h3)⟩
  · rintro x y u (p | ⟨e1, e2⟩) hu h1
    · obtain ⟨v, q1, q2⟩ := hH.1 x y u p hu (fun q => h1 ((int _).mpr q))
      exact ⟨v, q1, .inl q2⟩
    · rw [e1, cn] at hu; exact absurd hu (h0 u)
  · rintro x y v (p | ⟨e1, e2⟩) hv h1
    · obtain ⟨u, q1, q2⟩ := hH.2 x y v p hv (fun q => h1 ((int' _).mpr q))
      exact ⟨u, q1, .inl q2⟩
    · rw [e2, mn] at hv; exact absurd hv (h0' v)
theorem cov.int {G G' : tG} {r : Nat → Nat} {SL : List Nat} {im : Nat → Nat} {u v : Nat} (hint : ∀ y, G'.1 y = 1 ↔ G.1 y = 1) : cov G' r SL im u v ↔ cov G r SL im u v := by
  unfold cov; rw [hint]; exact ⟨fun h => h.elim .inl (fun h => .inr ⟨fun k => h.1 ((hint _).mpr k), h.2⟩), fun h => h.elim .inl (fun h => .inr ⟨fun k => h.1 ((hint _).mp k), h.2⟩)⟩
theorem CPd.keep {G G' : tG} {r : Nat → Nat} {h h' : Nat → Nat → Prop} {SL : List Nat} {im : Nat → Nat} (hd : CPd G r h SL im) (hint : ∀ y, G'.1 y = 1 ↔ G.1 y = 1) (hg : ∀ t, t ∈ SL → (G'.1 t = G.1 t ∧ G'.2.1 t = G.2.1 t ∧ G'.2.2 t = G.2.2 t) ∧ (G'.1 (im t) = G.1 (im t) ∧ G'.2.1 (im t) = G.2.1 (im t) ∧ G'.2.2 (im t) = G.2.2 (im t)) ∧ (∀ u, h' t u ↔ h t u) ∧ (∀ u, h' (im t) u ↔ h (im t) u)) : CPd G' r h' SL im := by
  refine ⟨fun t ht => ?_, hd.2⟩
  obtain ⟨a1, a2, a3, a4, a5, a6, a7, a8⟩ := hd.1 t ht
  obtain ⟨⟨b1, b2, b3⟩, ⟨b4, b5, b6⟩, b7, b8⟩ := hg t ht
  refine ⟨a1, fun k => a2 ((hint t).mp k), a3, a4, by rw [b4, b1]; exact a5, fun hk => ?_, fun u hu hk => ?_, fun v hv => ?_⟩
  · rw [b1] at hk ⊢
    rw [b2, b5, b3, b6]
    exact ⟨(cov.int hint).mpr (a6 hk).1, fun h3 => (cov.int hint).mpr ((a6 hk).2 h3)⟩
  · obtain ⟨v, q1, q2⟩ := a7 u ((b7 u).mp hu) (fun k => hk ((hint _).mpr k))
    exact ⟨v, (b8 v).mpr q1, (cov.int hint).mpr q2⟩
  · obtain ⟨u, q1, q2, q3⟩ := a8 v ((b8 v).mp hv)
    exact ⟨u, (b7 u).mpr q1, fun k => q2 ((hint _).mp k), (cov.int hint).mpr q3⟩
/-- copies are left alone when others are made alike -/
theorem CPd.alike {G : tG} {r r' : Nat → Nat} {h h' : Nat → Nat → Prop} {SL : List Nat} {im : Nat → Nat} {x1 x2 : Nat} (hd : CPd G r h SL im) (hP : gP G r) (ha : alC G r x1 x2 r') (hH : alH r h r' h') (hi1 : ∀ x, G.1 x = 1 ↔ x = 0) (V : Nat → Prop) (hV : ∀ x y, r x = r y → V x → V y) (v1 : V x1) (v2 : V x2)
    (hK : ∀ x, V x → 2 ≤ G.1 x → V (G.2.1 x) ∧ (G.1 x ≠ 3 → V (G.2.2 x))) (hn : ∀ t, t ∈ SL → ¬ V t ∧ ¬ V (im t)) : CPd G r' h' SL im := by
  obtain ⟨l1, l2⟩ := ha.live hP.2.2.1 V hV v1 v2 hK
  have cvr : ∀ u v, cov G r SL im u v → cov G r' SL im u v ∧ r' u = r u := by
    intro u v hc
    have e0 : r' (r u) = r' u := ha.2.2.2.1 _ _ (hP.1 u)
    rcases hc with ⟨c1, c2⟩ | ⟨c1, c2, c3⟩
    · have z := (hi1 _).mp c1
      have k := ha.2.1 (r u) (by omega)
      rw [c1] at k
      have z' := (hi1 _).mp k
      rw [e0] at z' k
      exact ⟨.inl ⟨k, by rw [c2, z, z']⟩, by rw [z, z']⟩
    · have := l2 (r u) (hn _ c2).1
      rw [e0, hP.1] at this
      exact ⟨.inr (by rw [this]; exact ⟨c1, c2, c3⟩), this⟩
  have cvq : ∀ u u' v, r' u = r' u' → cov G r' SL im u v → cov G r' SL im u' v := by
    intro u u' v e hc
    unfold cov at hc ⊢
    rw [← e]; exact hc
  have pris : ∀ t, t ∈ SL → ∀ y, r' y = im t → y = im t := by
    intro t ht y hy
    have e1 := l2 (im t) (hn t ht).2
    rw [(hd.1 t ht).2.2.1] at e1
    rcases l1 y (im t) (by rw [hy, e1]) with q | q
    · rw [(hd.1 t ht).2.2.1] at q; exact (hd.1 t ht).2.2.2.1 y q
    · exact absurd q.2 (hn t ht).2
  refine ⟨fun t ht => ?_, hd.2⟩
  obtain ⟨a1, a2, a3, a4, a5, a6, a7, a8⟩ := hd.1 t ht
  have rt : r' t = t := by rw [l2 t (hn t ht).1, a1]
  have ri : r' (im t) = im t := by rw [l2 _ (hn t ht).2, a3]
  have back : ∀ s, ¬ V s → r s = s → ∀ u, h' s u → ∃ v, h s v ∧ r' v = r' u := by
    intro s hs es u hu
    have ers : r' s = s := by rw [l2 s hs, es]
    obtain ⟨q, v, e1, e2, e3⟩ := hH.1 s u (by rw [ers]; exact hu)
    rcases l1 q s e1 with k | k
    · rw [k, es] at e2; exact ⟨v, e2, e3⟩
    · exact absurd k.2 hs
  refine ⟨rt, a2, ri, pris t ht, a5, fun hk => ⟨(cvr _ _ (a6 hk).1).1, fun h3 => (cvr _ _ ((a6 hk).2 h3)).1⟩, fun u hu hk => ?_, fun v hv => ?_⟩
  · obtain ⟨v, q1, q2⟩ := back t (hn t ht).1 a1 u hu
    have kv : G.1 (r v) ≠ 1 := by
      intro k
      have := ha.2.1 (r v) (by omega)
      rw [ha.2.2.2.1 _ _ (hP.1 v), k, q2] at this
      exact hk this
    obtain ⟨w, q3, q4⟩ := a7 v q1 kv
    obtain ⟨w', q5, q6⟩ := hH.2 (im t) w (by rw [a3]; exact q3)
    rw [ri] at q5
    have hw : w' = w := by
      rcases q4 with c | ⟨c1, c2, c3⟩
      · exact absurd c.1 kv
      · have e := (hd.1 _ c2).2.2.1
        have e2 : r' w = w := by rw [c3, l2 _ (hn _ c2).2, e]
        rw [e2] at q6
        rw [c3] at q6 ⊢
        exact pris _ c2 w' q6
    exact ⟨w', q5, by rw [hw]; exact cvq v u w q2 (cvr _ _ q4).1⟩
  · obtain ⟨w, q1, q2⟩ := back (im t) (hn t ht).2 a3 v hv
    obtain ⟨u, q3, q4, q5⟩ := a8 w q1
    have hw : v = w := by
      rcases q5 with c | ⟨c1, c2, c3⟩
      · exact absurd c.1 q4
      · have e := (hd.1 _ c2).2.2.1
        have e2 : r' w = w := by rw [c3, l2 _ (hn _ c2).2, e]
        rw [e2] at q2
        rw [c3] at q2 ⊢
        exact pris _ c2 v q2.symm
    obtain ⟨u', q6, q7⟩ := hH.2 t u (by rw [a1]; exact q3)
    rw [rt] at q6
    have cu := cvr _ _ q5
    refine ⟨u', q6, ?_, by rw [hw]; exact cvq u u' w q7.symm cu.1⟩
    rw [q7, cu.2]; exact q4
