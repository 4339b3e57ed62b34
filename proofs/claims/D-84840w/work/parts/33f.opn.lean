/-! TYPES OF THE MODEL: the search for a ring, and alike as a whole -/
section RGM2
variable {L : Nat} {xs : Nat → Int32} {σ σ' : tvS}
/-- one is opened -/
theorem opn_m {N : Nat} {G : tG} {r : Nat → Nat} {S t : Nat} {W : List Nat} (hr2 : ∀ x, r (r x) = r x) (hT : TM N G r σ) (hS : S < 2147483648) (hM : MT N S σ) (hW : rwL σ W) (ht : t < N) (hk : 2 ≤ G.1 t) (hl : W.length + 2 ≤ 100000) (d : Nat) (v4 v5 v6 : Value) :
    (∃ σ' y, (∀ v1, rn L xs (d + 2) 346 78 [.ref 123, v1, .int (i32 W.length), .int (i32 t), v4, v5, v6] [] σ = some (.inl (some (.int 1)), σ')) ∧ y ∈ kids G t ∧ ¬ dnd S σ (r y) ∧ (mkd S σ (r y) ∨ r y = t) ∧ frM [169, 171, 176] [] σ σ') ∨
    (∃ σ' l w3 w4 w5 w6, (∀ v1, ∃ u1, rn L xs (d + 2) 346 78 [.ref 123, v1, .int (i32 W.length), .int (i32 t), v4, v5, v6] [] σ = rn L xs (d + 2) 346 26 [.ref 123, u1, .int (i32 ((l ++ W).length : Nat)), w3, w4, w5, w6] [] σ') ∧
      TM N G r σ' ∧ MT N S σ' ∧ rwL σ' (l ++ W) ∧ frM [169, 171, 176] [] σ σ' ∧ (∀ y, rd σ' 171 y = if y = t then i32 (S : Int) else rd σ 171 y) ∧ l.length ≤ 2 ∧ (∀ z, z ∈ l → ∃ y, y ∈ kids G t ∧ z = r y ∧ ¬ mkd S σ z ∧ z ≠ t) ∧ (∀ y, y ∈ kids G t → dnd S σ (r y) ∨ r y ∈ l)) := by
  have hN := hT.2.2.1
  have w1 : frM [171] [] σ (wr σ 171 t (i32 (S : Int))) := frM_wr rfl (by decide)
  have T1 := hT.fr w1 rfl ⟨rfl, rfl, rfl, rfl⟩
  have r171 : ∀ y, rd (wr σ 171 t (i32 (S : Int))) 171 y = if y = t then i32 (S : Int) else rd σ 171 y := fun y => by
    rw [rd_wr]
    by_cases e : y = t
    · rw [if_pos ⟨rfl, e⟩, if_pos e]
    · rw [if_neg (fun k => e k.2), if_neg e]
  have M1 : MT N S (wr σ 171 t (i32 (S : Int))) := ⟨by rw [w1.2 72 rfl]; exact hM.1, fun y hy => ⟨by
    rw [r171]
    by_cases e : y = t
    · rw [if_pos e]; exact ⟨S, Nat.le_refl _, rfl⟩
    · rw [if_neg e]; exact (hM.2 y hy).1, by rw [w1.rd (j := 172) rfl]; exact (hM.2 y hy).2⟩⟩
  have W1 := hW.fr w1 rfl
  obtain ⟨k1, k2, k3⟩ := T1.2.2.2.2.2.1 t ht
  obtain ⟨k4, k5, k6⟩ := k3 hk
  have p78 : ∀ v1, rn L xs (d + 2) 346 78 [.ref 123, v1, .int (i32 W.length), .int (i32 t), v4, v5, v6] [] σ = bI (rn L xs (d + 1) 337 0 [.ref 123, .int (i32 (G.2.1 t : Int)), jv, jv, jv] [] (wr σ 171 t (i32 (S : Int)))) (fun a2 s1 => rn L xs (d + 2) 346 139 [.ref 123, dj v1, .int (i32 W.length), .int (i32 t), .int 0, dj v5, dj v6] [.int a2] s1) X0 := by
    intro v1
    rw [e346_78 (d + 1), c_in (by omega) (by omega) (by omega), i32_ixn (by omega), hM.1, e346_91 (d + 1), show pv_c2 .ge (0 : Int32) 2 = false from rfl, cond_false, show pv_c1 .ne (0 : Int32) = false from rfl, cond_false, c_in (by omega) (by omega) (by omega), i32_ixn (by omega), k4]
  have p139 : ∀ (v1 v5 v6 : Value) (n : Nat) (c : Int32) (s : tvS), rn L xs (d + 2) 346 139 [.ref 123, v1, .int (i32 n), .int (i32 t), .int 0, v5, v6] [.int c] s = rn L xs (d + 2) 346 162 [.ref 123, v1, .int (i32 n), .int (i32 t), .int 0, .int c, v6] [.int 0] s := by
    intro v1 v5 v6 n c s
    rw [e346_139 (d + 1), show pv_c2 .ne (0 : Int32) 1 = true from rfl, cond_true, e346_161]
  have toSet : ∀ z, mkd S (wr σ 171 t (i32 (S : Int))) z → mkd S σ z ∨ z = t := by
    intro z h
    unfold mkd at h
    rw [r171] at h
    by_cases e : z = t
    · exact .inr e
    · rw [if_neg e] at h; exact .inl h
  have toNot : ∀ z, ¬ mkd S (wr σ 171 t (i32 (S : Int))) z → ¬ mkd S σ z ∧ z ≠ t := by
    intro z h
    unfold mkd at h
    rw [r171] at h
    by_cases e : z = t
    · rw [if_pos e] at h; exact absurd rfl h
    · rw [if_neg e] at h; exact ⟨h, e⟩
  have dn1 : ∀ z, dnd S (wr σ 171 t (i32 (S : Int))) z ↔ dnd S σ z := fun z => by unfold dnd; rw [w1.rd (j := 172) rfl]
  obtain ⟨s1, f1, q1⟩ := kidF_m (L := L) (xs := xs) hr2 T1 hS M1 W1 k5 (by omega) d (i32 t) 0
  rcases q1 with ⟨n1, n2, n3, n4⟩ | ⟨s2, l1, z6, j1, T2, M2, W2, w2, j2⟩
  · refine .inl ⟨s1, G.2.1 t, fun v1 => ?_, kid_a, fun h => n1 ((dn1 _).mpr h), toSet _ n2, (w1.sub rfl rfl).trans (n3.sub rfl rfl)⟩
    rw [p78 v1, bI_ok f1, p139, n4]
  · have l1len : l1.length ≤ 1 := by
      rcases j2 with j2 | j2
      · rw [j2.1]; decide
      · rw [j2.1]; exact Nat.le_refl 1
    have w12 : frM [169, 171, 176] [] σ s2 := (w1.sub rfl rfl).trans (w2.sub rfl rfl)
    have q213 : ∀ v1, ∃ u1, rn L xs (d + 2) 346 78 [.ref 123, v1, .int (i32 W.length), .int (i32 t), v4, v5, v6] [] σ = rn L xs (d + 2) 346 115 [.ref 123, u1, .int (i32 ((l1 ++ W).length : Nat)), .int (i32 t), .int 1, .int (i32 (r (G.2.1 t) : Int)), z6] [] s2 := by
      intro v1
      obtain ⟨u1, hu⟩ := j1 (dj v1) (dj v6)
      refine ⟨u1, ?_⟩
      rw [p78 v1, bI_ok f1, p139, hu, e346_213, e346_91 (d + 1), show pv_c2 .ge ((0 : Int32) + 1) 2 = false from rfl, cond_false, show pv_c1 .ne ((0 : Int32) + 1) = true from rfl, cond_true]
      rfl
    have in1 : ∀ z, z ∈ l1 → ∃ y, y ∈ kids G t ∧ z = r y ∧ ¬ mkd S σ z ∧ z ≠ t := by
      intro z hz
      rcases j2 with j2 | ⟨j2, j3, j4⟩
      · rw [j2.1] at hz; cases hz
      · rw [j2] at hz
        have := List.mem_singleton.mp hz
        subst this
        exact ⟨G.2.1 t, kid_a, rfl, (toNot _ j4).1, (toNot _ j4).2⟩
    have ok1 : dnd S σ (r (G.2.1 t)) ∨ r (G.2.1 t) ∈ l1 := by
      rcases j2 with j2 | ⟨j2, j3, j4⟩
      · exact .inl ((dn1 _).mp j2.2)
      · exact .inr (by rw [j2]; exact List.mem_singleton.mpr rfl)
    have m2 : ∀ y, rd s2 171 y = if y = t then i32 (S : Int) else rd σ 171 y := fun y => by rw [w2.rd (j := 171) rfl, r171]
    have kk2 := (T2.2.2.2.2.2.1 t ht).1
    by_cases h3 : G.1 t = 3
    · refine .inr ⟨s2, l1, .int (i32 t), .int ((1 : Int32) + 1), .int (i32 t), .int 1, fun v1 => ?_, T2, M2, W2, w12, m2, by omega, in1, fun y hy => ?_⟩
      · obtain ⟨u1, hu⟩ := q213 v1
        refine ⟨u1, ?_⟩
        rw [hu, e346_115 (d + 1), c_in (by omega) (by omega) (by omega), i32_ixn (by omega), kk2, h3, show (3 : Int32) = i32 ((3 : Nat) : Int) from rfl, c2_refl, e346_138, e346_139 (d + 1), show pv_c2 .ne (1 : Int32) 1 = false from rfl, cond_false, c_in (by omega) (by omega) (by omega), i32_ixn (by omega), kk2, h3, show (3 : Int32) = i32 ((3 : Nat) : Int) from rfl, c2_ne (by omega) (by omega) (by omega) (by omega), c_f (by omega), e346_162, show pv_c1 .ne (1 : Int32) = true from rfl, cond_true, e346_213, e346_91 (d + 1), show pv_c2 .ge ((1 : Int32) + 1) 2 = true from rfl, cond_true, e346_219]
      · unfold kids at hy
        rw [if_pos h3] at hy
        rw [List.mem_singleton.mp hy]; exact ok1
    · obtain ⟨k7, k8⟩ := k6 h3
      have q115 : ∀ v1, ∃ u1, rn L xs (d + 2) 346 78 [.ref 123, v1, .int (i32 W.length), .int (i32 t), v4, v5, v6] [] σ = bI (rn L xs (d + 1) 337 0 [.ref 123, .int (i32 (G.2.2 t : Int)), jv, jv, jv] [] s2) (fun a2 s1 => rn L xs (d + 2) 346 139 [.ref 123, dj u1, .int (i32 ((l1 ++ W).length : Nat)), .int (i32 t), .int 1, .int (i32 (r (G.2.1 t) : Int)), dj z6] [.int a2] s1) X0 := by
        intro v1
        obtain ⟨u1, hu⟩ := q213 v1
        refine ⟨u1, ?_⟩
        rw [hu, e346_115 (d + 1), c_in (by omega) (by omega) (by omega), i32_ixn (by omega), kk2, show (3 : Int32) = i32 ((3 : Nat) : Int) from rfl, c2_eq (by omega) (by omega) (by omega) (by omega), c_f (by omega), c_in (by omega) (by omega) (by omega), w2.rd (j := 168) rfl, k7]
        rfl
      have p139' : ∀ (v1 v5 v6 : Value) (n : Nat) (c : Int32) (s : tvS), TM N G r s → rn L xs (d + 2) 346 139 [.ref 123, v1, .int (i32 n), .int (i32 t), .int 1, v5, v6] [.int c] s = rn L xs (d + 2) 346 162 [.ref 123, v1, .int (i32 n), .int (i32 t), .int 1, .int c, v6] [.int 0] s := by
        intro v1 v5 v6 n c s hs
        rw [e346_139 (d + 1), show pv_c2 .ne (1 : Int32) 1 = false from rfl, cond_false, c_in (by omega) (by omega) (by omega), i32_ixn (by omega), (hs.2.2.2.2.2.1 t ht).1, show (3 : Int32) = i32 ((3 : Nat) : Int) from rfl, c2_ne (by omega) (by omega) (by omega) (by omega), c_t (by omega), e346_161]
      have dn2 : ∀ z, dnd S s2 z ↔ dnd S σ z := fun z => by unfold dnd; rw [w12.rd (j := 172) rfl]
      have mk2 : ∀ z, mkd S s2 z ↔ mkd S (wr σ 171 t (i32 (S : Int))) z := fun z => by unfold mkd; rw [m2, r171]
      have ll : (l1 ++ W).length < 100000 := by rw [List.length_append]; omega
      obtain ⟨s3, f3, q3⟩ := kidF_m (L := L) (xs := xs) hr2 T2 hS M2 W2 k8 ll d (i32 t) 1
      rcases q3 with ⟨n1, n2, n3, n4⟩ | ⟨s4, l2, z7, i1, T4, M4, W4, w4, i2⟩
      · refine .inl ⟨s3, G.2.2 t, fun v1 => ?_, kid_b h3, fun h => n1 ((dn2 _).mpr h), toSet _ ((mk2 _).mp n2), w12.trans (n3.sub rfl rfl)⟩
        obtain ⟨u1, hu⟩ := q115 v1
        rw [hu, bI_ok f3, p139' _ _ _ _ _ _ (T2.M n3 rfl ⟨rfl, rfl, rfl⟩ (by
          obtain ⟨s5, f5, T5, w5⟩ := find_M (L := L) (xs := xs) T2 k8 d jv jv jv
          rw [f3] at f5
          have : s3 = s5 := by injection f5 with f5; exact (Prod.mk.inj f5).2
          rw [this]; exact T5.2.2.2.1) (fun x hx => (hT.2.2.2.2.1 x hx).1)), n4]
      · have T3 : TM N G r s3 := by
          obtain ⟨s5, f5, T5, w5⟩ := find_M (L := L) (xs := xs) T2 k8 d jv jv jv
          rw [f3] at f5
          have : s3 = s5 := by injection f5 with f5; exact (Prod.mk.inj f5).2
          rw [this]; exact T5
        have l2len : l2.length ≤ 1 := by
          rcases i2 with i2 | i2
          · rw [i2.1]; decide
          · rw [i2.1]; exact Nat.le_refl 1
        refine .inr ⟨s4, l2 ++ l1, .int (i32 t), .int ((1 : Int32) + 1), .int (i32 (r (G.2.2 t) : Int)), z7, fun v1 => ?_, T4, M4, by rw [List.append_assoc]; exact W4, w12.trans (w4.sub rfl rfl), fun y => by rw [w4.rd (j := 171) rfl]; exact m2 y, by rw [List.length_append]; omega, fun z hz => ?_, fun y hy => ?_⟩
        · obtain ⟨u1, hu⟩ := q115 v1
          obtain ⟨u2, hu2⟩ := i1 (dj u1) (dj z6)
          refine ⟨u2, ?_⟩
          rw [hu, bI_ok f3, p139' _ _ _ _ _ _ T3, hu2, e346_213, e346_91 (d + 1), show pv_c2 .ge ((1 : Int32) + 1) 2 = true from rfl, cond_true, e346_219, List.append_assoc]
        · rcases List.mem_append.mp hz with hz | hz
          · rcases i2 with i2 | ⟨i2, i3, i4⟩
            · rw [i2.1] at hz; cases hz
            · rw [i2] at hz
              have := List.mem_singleton.mp hz
              subst this
              have := toNot _ (fun h => i4 ((mk2 _).mpr h))
              exact ⟨G.2.2 t, kid_b h3, rfl, this.1, this.2⟩
          · exact in1 z hz
        · unfold kids at hy
          rw [if_neg h3] at hy
          rcases List.mem_cons.mp hy with hy | hy
          · rw [hy]
            rcases i2 with i2 | ⟨i2, i3, i4⟩
            · exact .inl ((dn2 _).mp i2.2)
            · exact .inr (List.mem_append_left _ (by rw [i2]; exact List.mem_singleton.mpr rfl))
          · rw [List.mem_singleton.mp hy]
            exact ok1.elim .inl (fun h => .inr (List.mem_append_right _ h))
end RGM2
