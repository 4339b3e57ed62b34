/-! WHAT IS DONE WITH STAYS AS IT IS, plainly -/
/-- a set of types that is closed and lies below B; so many boxed ones, so many others, so many held -/
def FRZ (B : Nat) (G : tG) (r : Nat → Nat) (h : Nat → Nat → Prop) (RS : Nat → Prop) : Prop :=
  (∀ t, RS t → t < B ∧ r t = t ∧ (2 ≤ G.1 t → G.2.1 t < B ∧ RS (r (G.2.1 t)) ∧ (G.1 t ≠ 3 → G.2.2 t < B ∧ RS (r (G.2.2 t)))) ∧ ∀ u, h t u → RS (r u)) ∧
  (∀ l : List Nat, l.Nodup → (∀ t, t ∈ l → RS t ∧ 2 ≤ G.1 t) → l.length ≤ 24) ∧ (∀ l : List Nat, l.Nodup → (∀ t, t ∈ l → RS t ∧ G.1 t = 0) → l.length ≤ 40) ∧
  (∀ l : List (Nat × Nat), l.Nodup → (∀ p, p ∈ l → RS p.1 ∧ G.1 p.2 ≠ 1 ∧ ∃ u, h p.1 u ∧ r u = p.2) → l.length ≤ 100)
/-- the tables grow, and nothing of it is touched -/
theorem FRZ.keep {B B' : Nat} {G G' : tG} {r : Nat → Nat} {h h' : Nat → Nat → Prop} {RS : Nat → Prop} (hf : FRZ B G r h RS) (hB : B ≤ B') (hg : ∀ x, x < B → G'.1 x = G.1 x ∧ G'.2.1 x = G.2.1 x ∧ G'.2.2 x = G.2.2 x) (hr : ∀ x, x < B → r x < B) (hint : ∀ y, G'.1 y = 1 ↔ G.1 y = 1) (hh : ∀ t, RS t → ∀ u, h' t u ↔ h t u) : FRZ B' G' r h' RS := by
  obtain ⟨a1, a2, a3, a4⟩ := hf
  refine ⟨fun t ht => ?_, fun l hd hl => a2 l hd (fun t ht => ?_), fun l hd hl => a3 l hd (fun t ht => ?_), fun l hd hl => a4 l hd (fun p hp => ?_)⟩
  · obtain ⟨b1, b2, b3, b4⟩ := a1 t ht
    rw [(hg t b1).1, (hg t b1).2.1, (hg t b1).2.2]
    refine ⟨by omega, b2, fun hk => ⟨by have := (b3 hk).1; omega, (b3 hk).2.1, fun h3 => ⟨by have := ((b3 hk).2.2 h3).1; omega, ((b3 hk).2.2 h3).2⟩⟩, fun u hu => ?_⟩
    exact b4 u ((hh t ht u).mp hu)
  · obtain ⟨c1, c2⟩ := hl t ht
    rw [(hg t (a1 t c1).1).1] at c2; exact ⟨c1, c2⟩
  · obtain ⟨c1, c2⟩ := hl t ht
    rw [(hg t (a1 t c1).1).1] at c2; exact ⟨c1, c2⟩
  · obtain ⟨c1, c2, u, c3, c4⟩ := hl p hp
    exact ⟨c1, fun k => c2 ((hint _).mpr k), u, (hh _ c1 u).mp c3, c4⟩
theorem FRZ.alike {B : Nat} {G : tG} {r r' : Nat → Nat} {h h' : Nat → Nat → Prop} {RS : Nat → Prop} {x1 x2 : Nat} (hf : FRZ B G r h RS) (hP : gP G r) (ha : alC G r x1 x2 r') (hH : alH r h r' h') (hi1 : ∀ x, G.1 x = 1 ↔ x = 0) (V : Nat → Prop) (hV : ∀ x y, r x = r y → V x → V y) (v1 : V x1) (v2 : V x2)
    (hK : ∀ x, V x → 2 ≤ G.1 x → V (G.2.1 x) ∧ (G.1 x ≠ 3 → V (G.2.2 x))) (hn : ∀ t, RS t → t ≠ 0 → ¬ V t) (h0 : ∀ u, ¬ h 0 u) (h0' : ∀ u, ¬ h' 0 u) : FRZ B G r' h' RS := by
  obtain ⟨l1, l2⟩ := ha.live hP.2.2.1 V hV v1 v2 hK
  obtain ⟨a1, a2, a3, a4⟩ := hf
  -- roots of it stay
  have rt : ∀ t, RS t → r' t = t := by
    intro t ht
    by_cases q : t = 0
    · have k : G.1 (r' t) = 1 := by rw [ha.2.1 t (by rw [(hi1 t).mpr q]; omega)]; exact (hi1 t).mpr q
      rw [(hi1 _).mp k, q]
    · rw [l2 t (hn t ht q), (a1 t ht).2.1]
  have ru : ∀ u, RS (r u) → r' u = r u := by
    intro u hu
    have e0 : r' (r u) = r' u := ha.2.2.2.1 _ _ (hP.1 u)
    rw [← e0, rt _ hu]
  have back : ∀ t, RS t → ∀ u, h' t u → ∃ v, h t v ∧ r' v = r' u := by
    intro t ht u hu
    by_cases q : t = 0
    · rw [q] at hu; exact absurd hu (h0' u)
    · obtain ⟨s, v, e1, e2, e3⟩ := hH.1 t u (by rw [rt t ht]; exact hu)
      rcases l1 s t e1 with k | k
      · rw [k, (a1 t ht).2.1] at e2; exact ⟨v, e2, e3⟩
      · exact absurd k.2 (hn t ht q)
  refine ⟨fun t ht => ?_, a2, a3, fun l hd hl => a4 l hd (fun p hp => ?_)⟩
  · obtain ⟨b1, b2, b3, b4⟩ := a1 t ht
    refine ⟨b1, rt t ht, fun hk => ?_, fun u hu => ?_⟩
    · obtain ⟨c1, c2, c3⟩ := b3 hk
      exact ⟨c1, by rw [ru _ c2]; exact c2, fun h3 => ⟨(c3 h3).1, by rw [ru _ (c3 h3).2]; exact (c3 h3).2⟩⟩
    · obtain ⟨v, q1, q2⟩ := back t ht u hu
      have q3 := b4 v q1
      rw [← q2, ru v q3]; exact q3
  · obtain ⟨c1, c2, u, c3, c4⟩ := hl p hp
    obtain ⟨v, q1, q2⟩ := back _ c1 u c3
    have q3 := (a1 _ c1).2.2.2 v q1
    exact ⟨c1, c2, v, q1, by rw [← c4, ← q2, ru v q3]⟩
/-- what is to be copied of it -/
theorem FRZ.cpB {B N0 : Nat} {G : tG} {r : Nat → Nat} {hl : Nat → List Nat} {hv : Nat → Nat} {H : Nat} {RS : Nat → Prop} (hf : FRZ B G r (hC hl hv) RS) (hB : B ≤ N0) (hk : ∀ x, x < B → G.1 x ≤ 4 ∧ (G.1 x = 1 ↔ x = 0)) (hH : ∀ t, t < B → r t = t → ∀ i, i ∈ hl t → i < H ∧ hv i < N0) (hr : ∀ x, N0 ≤ x → r x = x) : cpB N0 G r hl hv H RS 64 100 := by
  obtain ⟨a1, a2, a3, a4⟩ := hf
  refine ⟨fun t ht => ?_, fun l hd hl' => ?_, fun l hd hl' => a4 l hd (fun p hp => ?_), hr⟩
  · obtain ⟨b1, b2, b3, b4⟩ := a1 t ht
    refine ⟨by omega, b2, fun h2 => ⟨by have := (b3 h2).1; omega, (b3 h2).2.1, fun h3 => ⟨by have := ((b3 h2).2.2 h3).1; omega, ((b3 h2).2.2 h3).2⟩⟩, fun i hi => ?_⟩
    have q := hH t b1 b2 i hi
    exact ⟨q.1, q.2, b4 (hv i) ⟨i, hi, rfl⟩⟩
  · have e1 := a2 (l.filter (fun t => decide (2 ≤ G.1 t))) (hd.filter _) (fun t ht => by
      rw [List.mem_filter, decide_eq_true_eq] at ht; exact ⟨(hl' t ht.1).1, ht.2⟩)
    have e2 := a3 (l.filter (fun t => decide (G.1 t = 0))) (hd.filter _) (fun t ht => by
      rw [List.mem_filter, decide_eq_true_eq] at ht; exact ⟨(hl' t ht.1).1, ht.2⟩)
    have : l.length ≤ (l.filter (fun t => decide (2 ≤ G.1 t))).length + (l.filter (fun t => decide (G.1 t = 0))).length := by
      clear e1 e2 hd
      induction l with
      | nil => exact Nat.zero_le _
      | cons t l ih =>
        have i := ih (fun s hs => hl' s (List.mem_cons_of_mem _ hs))
        have q := hl' t List.mem_cons_self
        have k := (hk t (a1 t q.1).1).1
        by_cases c : 2 ≤ G.1 t
        · rw [List.filter_cons_of_pos (by simpa using c)]
          by_cases c2 : G.1 t = 0
          · omega
          · rw [List.filter_cons_of_neg (by simpa using c2)]
            show l.length + 1 ≤ _ + 1 + _
            omega
        · have c2 : G.1 t = 0 := by omega
          rw [List.filter_cons_of_neg (by simpa using c), List.filter_cons_of_pos (by simpa using c2)]
          show l.length + 1 ≤ _ + (_ + 1)
          omega
    omega
  · obtain ⟨c1, c2, i, c3, c4⟩ := hl' p hp
    exact ⟨c1, c2, hv i, ⟨i, c3, rfl⟩, c4⟩
