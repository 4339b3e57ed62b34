/-! TYPES OF THE MODEL: copyOf -/
section CPY
variable {L : Nat} {xs : Nat → Int32} {σ σ' : tvS}
theorem bI_inv {r : tvR} {K : Int32 → tvS → tvR} {o : Option Value} {s' : tvS} (h : bI r K X0 = some (.inl o, s')) : ∃ x s, r = some (.inl (some (.int x)), s) ∧ K x s = some (.inl o, s') := by
  cases r with
  | none => cases h
  | some q =>
    obtain ⟨v, s⟩ := q
    rcases v with (_ | v) | ⟨t, k⟩
    · cases h
    · cases v
      case int x => exact ⟨x, s, rfl, h⟩
      all_goals cases h
    · cases h
theorem copyOf_m {N0 S b1 b2 : Nat} {G0 : tG} {r : Nat → Nat} {hl0 : Nat → List Nat} {hv0 : Nat → Nat} {H0 : Nat} {RS : Nat → Prop} (hB : cpB N0 G0 r hl0 hv0 H0 RS b1 b2) (h0 : ∀ x, G0.1 x ≤ 4) (hi1 : ∀ x, G0.1 x = 1 ↔ x = 0) (hr2 : ∀ x, r (r x) = r x) (hb : N0 + b1 < 99990) (hb2 : H0 + b2 < 250000) (hb1 : b1 ≤ 40000) (hS2 : S < 2147483648) (hz0 : hl0 0 = []) (hN00 : 0 < N0) (hr0 : r 0 = 0)
    {N : Nat} {G : tG} {hl : Nat → List Nat} {hv : Nat → Nat} {H Sh : Nat} {im : Nat → Nat} {SL : List Nat} {PL : List (Nat × Nat)} {z : Prop} {k : Nat} (hI : cpI N0 G0 r hl0 hv0 H0 RS N G hl hv H im SL PL [] []) (hM : cmS N0 S r N G hl hv H Sh im SL [] k [] z σ) (hSh : Sh + (2 * b1 + 3) < 2147483648) {u : Nat} (hu : u < N0) (hRu : RS (r u)) (d : Nat) (v2 v3 v4 v5 v6 v7 v8 : Value) :
    ∃ (σ' : tvS) (N' : Nat) (G' : tG) (hl' : Nat → List Nat) (hv' : Nat → Nat) (H' Sh' : Nat) (im' : Nat → Nat) (SL' : List Nat) (PL' : List (Nat × Nat)) (z' : Prop) (k' v : Nat), rn L xs (d + 5) 336 0 [.ref 123, .int (i32 u), v2, v3, v4, v5, v6, v7, v8] [] σ = some (.inl (some (.int (i32 v))), σ') ∧
      cpI N0 G0 r hl0 hv0 H0 RS N' G' hl' hv' H' im' SL' PL' [] [] ∧ cmS N0 S r N' G' hl' hv' H' Sh' im' SL' [] k' [] z' σ' ∧ cov G0 r SL' im' u v ∧ v < N' ∧ (∀ s, s ∈ SL → s ∈ SL' ∧ im' s = im s) ∧ frM FCH [63, 73, 84] σ σ' ∧ Sh' ≤ Sh + (2 * b1 + 3) := by
  have hN := hM.1.2.2.1
  have hNN : N0 ≤ N := by rw [hI.1]; omega
  obtain ⟨s1, f1, T1, w1⟩ := find_MQ (L := L) (xs := xs) hM.1 (show u < N by omega) (d + 3) jv jv jv
  have M1 := hM.fr1 w1 T1.2.2.2.1
  obtain ⟨q1, q2, q3, q4⟩ := hB.1 (r u) hRu
  have M1' : cmS N0 S r N G hl hv H Sh im SL [] 0 [] z s1 := by
    obtain ⟨m1, m2, m3, m4, m5, m6⟩ := M1
    exact ⟨m1, m2, m3, m4, trivial, m6⟩
  have p330 : ∀ (s : tvS) (x : Int32) (u1 u3 u4 u5 u6 u7 u8 : Value), rd s 173 (r u) = x → rn L xs (d + 5) 336 330 [.ref 123, u1, .int (i32 (r u : Int)), u3, u4, u5, u6, u7, u8] [] s = some (.inl (some (.int x)), s) := by
    intro s x u1 u3 u4 u5 u6 u7 u8 h
    rw [e336_330, c_in (by omega) (by omega) (by omega), i32_ixn (by omega), h]
  rw [e336_0 (d + 4), bI_ok f1, c_in (by omega) (by omega) (by omega), i32_ixn (by omega), M1.2.2.1.1]
  by_cases c1 : rd s1 171 (r u) = i32 (S : Int)
  · rw [c1, c2_refl]
    rcases (M1.2.2.2.2.2.1 (r u) q1).mp c1 with q | ⟨q, q'⟩
    · have y := hI.2.2.1 _ q
      exact ⟨s1, N, G, hl, hv, H, Sh, im, SL, PL, z, 0, im (r u), p330 _ _ _ _ _ _ _ _ _ (M1.2.2.2.2.2.2.1 _ q), hI, M1', .inr ⟨y.2.1, q, rfl⟩, y.2.2.2.1, fun s hs => ⟨hs, rfl⟩, w1.sub rfl rfl, by omega⟩
    · have h173 := M1.2.2.2.2.2.2.2.1 q'
      exact ⟨s1, N, G, hl, hv, H, Sh, im, SL, PL, z, 0, 0, p330 _ _ _ _ _ _ _ _ _ (by rw [q]; exact h173), hI, M1', .inl ⟨(hi1 _).mpr q, q.symm⟩, by omega, fun s hs => ⟨hs, rfl⟩, w1.sub rfl rfl, by omega⟩
  · rw [show pv_c2 .eq (rd s1 171 (r u)) (i32 (S : Int)) = false from decide_eq_false c1, cond_false]
    obtain ⟨s2, N1, G1, im1, SL1, Q1, z1, a1, I3, M3, a2, a3, ext, a5, a6, a7, a8, fr3⟩ := meet_c (L := L) (xs := xs) (Q := []) (o := 0) hB h0 hi1 hb hS2 hI M1' (by show 0 + 0 < _; omega) hRu (d + 2)
    have a1' : rn L xs (d + 5) 339 0 [.ref 123, .int (i32 (r u : Int)), .int (i32 (0 : Nat))] [] s1 = some (.inl (some (.int (i32 (0 + Q1.length : Nat)))), s2) := a1
    rw [e339_0 (d + 4), c_in (by omega) (by omega) (by omega), i32_ixn (by omega), M1.2.2.1.1, show pv_c2 .ne (rd s1 171 (r u)) (i32 (S : Int)) = true from decide_eq_true c1, cond_true, e339_15 (d + 4)] at a1'
    obtain ⟨x, s3, e1, e2⟩ := bI_inv a1'
    rw [c_in (by omega) (by omega) (by omega)] at e2
    have e3 := Prod.mk.inj (Option.some.inj e2)
    have e4 : s2 = wr s3 176 0 x := by
      rw [← e3.2]; rfl
    have e5 : i32 (0 : Nat) + 1 = i32 (0 + Q1.length : Nat) := by
      have := e3.1
      injection this with this
      injection this with this
      injection this
    have hQ1 : Q1 = [r u] := by
      rcases a7 with e | ⟨e, _⟩
      · rw [e] at e5
        have : i32 ((1 : Nat) : Int) = i32 ((0 : Nat) : Int) := e5
        have := (i32_inj (by omega) (by omega) (by omega) (by omega)).mp this
        omega
      · exact e
    subst hQ1
    rw [bI_ok e1, show (wr s3 176 (ix 0) x) = s2 from e4.symm]
    have hSL1 : SL1.length ≤ b1 := hB.2.1 SL1 I3.2.1 (fun t ht => ⟨(I3.2.2.1 t ht).1, (I3.2.2.1 t ht).2.1⟩)
    have hzc : ∃ zc, (z1 ∨ 1 ≤ zc) ∧ zc ≤ 1 := by
      by_cases h : z1
      · exact ⟨0, .inl h, by omega⟩
      · exact ⟨1, .inr (Nat.le_refl _), Nat.le_refl _⟩
    obtain ⟨zc, hz1, hz2⟩ := hzc
    obtain ⟨σ', N', G', hl', hv', H', Sh', im', SL', PL', z', k', p1, p3, p4, p5, p6, p7, p8, j1, j2, j3, j4, j5, j6, j7⟩ := cpm_loop (L := L) (xs := xs) hB h0 hi1 hr2 hb hb2 hb1 hS2 hz0 hN00 hr0 (d + 1) (i32 (r u : Int)) (2 * b1 + 3) (Q := [r u]) (k := 0) I3 M3 (fun t ht => by rw [List.mem_singleton.mp ht]; exact hRu) hz1 (by show 0 + 1 + zc ≤ _; omega) (by show _ + 1 + _ ≤ _; omega) hSh (.int (i32 u)) (dj (dj v5)) (dj (dj v6)) (dj (dj v7)) (dj (dj v8))
    have j1' : rn L xs (d + 5) 336 38 [.ref 123, .int (i32 u), .int (i32 (r u : Int)), .int (0 + 1), .int 0, dj (dj v5), dj (dj v6), dj (dj v7), dj (dj v8)] [] s2 = rn L xs (d + 5) 336 330 [.ref 123, p1, .int (i32 (r u : Int)), p3, p4, p5, p6, p7, p8] [] σ' := j1
    rw [show d + 4 + 1 = d + 5 from rfl, j1']
    have frr : frM FCH [63, 73, 84] σ σ' := (w1.sub rfl rfl).trans ((fr3.1.sub rfl rfl).trans j6)
    rcases a2 with q | ⟨q, q'⟩
    · have hS' := (j4 _ q).1
      have y := j2.2.2.1 _ hS'
      exact ⟨σ', N', G', hl', hv', H', Sh', im', SL', PL', z', k', im' (r u), p330 _ _ _ _ _ _ _ _ _ (j3.2.2.2.2.2.2.1 _ hS'), j2, j3, .inr ⟨y.2.1, hS', rfl⟩, y.2.2.2.1, fun s hs => ⟨(j4 s (ext s hs).1).1, by rw [(j4 s (ext s hs).1).2, (ext s hs).2]⟩, frr, j7⟩
    · have hz' := j5 q'
      have h173 := j3.2.2.2.2.2.2.2.1 hz'
      have hN' : N0 ≤ N' := by rw [j2.1]; omega
      exact ⟨σ', N', G', hl', hv', H', Sh', im', SL', PL', z', k', 0, p330 _ _ _ _ _ _ _ _ _ (by rw [q]; exact h173), j2, j3, .inl ⟨(hi1 _).mpr q, q.symm⟩, by omega, fun s hs => ⟨(j4 s (ext s hs).1).1, by rw [(j4 s (ext s hs).1).2, (ext s hs).2]⟩, frr, j7⟩
end CPY
