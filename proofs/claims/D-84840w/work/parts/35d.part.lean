/-! TYPES OF THE MODEL: a copy, whole -/
section CPW
variable {L : Nat} {xs : Nat → Int32} {σ σ' : tvS}
theorem cpI.fin0 {N0 : Nat} {G0 : tG} {r : Nat → Nat} {hl0 : Nat → List Nat} {hv0 : Nat → Nat} {H0 : Nat} {RS : Nat → Prop} {N : Nat} {G : tG} {hl : Nat → List Nat} {hv : Nat → Nat} {H : Nat} {im : Nat → Nat} {SL : List Nat} {PL : List (Nat × Nat)} {W : List Nat} {t va vb : Nat}
    (hI : cpI N0 G0 r hl0 hv0 H0 RS N G hl hv H im SL PL [t] W) (hK : 2 ≤ G0.1 t → cov G0 r SL im (G0.2.1 t) va ∧ (G0.1 t ≠ 3 → cov G0 r SL im (G0.2.2 t) vb)) (h1 : ∀ i, i ∈ hl0 t → G0.1 (r (hv0 i)) ≠ 1 → ∃ j, j ∈ hl (im t) ∧ cov G0 r SL im (hv0 i) (hv j)) (h2 : ∀ j, j ∈ hl (im t) → ∃ i, i ∈ hl0 t ∧ G0.1 (r (hv0 i)) ≠ 1 ∧ cov G0 r SL im (hv0 i) (hv j)) :
    cpI N0 G0 r hl0 hv0 H0 RS N (gSet G (im t) va vb) hl hv H im SL PL [] W := by
  obtain ⟨i1, i2, i3, i4, i5, i6, i7, i8, i9, i10, i11, i12, i13, i14, i15, i16⟩ := hI
  have ht : t ∈ SL := i6 t (List.mem_append_left _ (List.mem_singleton.mpr rfl))
  obtain ⟨t1, t2, t3, t4, t5⟩ := i3 t ht
  refine ⟨i1, i2, i3, i4, i5, fun s hs => i6 s (List.mem_append_right _ hs), (List.nodup_append.mp i7).2.1, fun s hs hns => ?_, i9, fun x hx => ?_, i11, i12, i13, i14, i15, i16⟩
  · by_cases e : s = t
    · subst e
      refine ⟨fun hk => ⟨?_, fun h3 => ?_⟩, h1, h2⟩
      · rw [show (gSet G (im s) va vb).2.1 (im s) = va from if_pos rfl]; exact (hK hk).1
      · rw [show (gSet G (im s) va vb).2.2 (im s) = vb from if_pos rfl]; exact (hK hk).2 h3
    · have hne : im s ≠ im t := fun q => e (i4 s t hs ht q)
      obtain ⟨y1, y2, y3⟩ := i8 s hs (fun q => by
        rcases List.mem_append.mp q with q | q
        · exact e (List.mem_singleton.mp q)
        · exact hns q)
      rw [show (gSet G (im t) va vb).2.1 (im s) = G.2.1 (im s) from if_neg hne, show (gSet G (im t) va vb).2.2 (im s) = G.2.2 (im s) from if_neg hne]
      exact ⟨y1, y2, y3⟩
  · rw [show (gSet G (im t) va vb).2.1 x = G.2.1 x from if_neg (by omega), show (gSet G (im t) va vb).2.2 x = G.2.2 x from if_neg (by omega)]
    exact i10 x hx
theorem cmS.fin {N0 S Sh : Nat} {G0 : tG} {r : Nat → Nat} {N : Nat} {G : tG} {hl : Nat → List Nat} {hv : Nat → Nat} {H : Nat} {im : Nat → Nat} {SL : List Nat} {o : Nat} {Q : List Nat} {z : Prop} {t va vb : Nat}
    (hM : cmS N0 S r N G hl hv H Sh im SL [t] o Q z σ) (hK : cmK G0 r N im SL t va vb σ) (hg : G.1 (im t) = G0.1 t) : cmS N0 S r N (gSet G (im t) va vb) hl hv H Sh im SL [] o Q z σ := by
  obtain ⟨⟨a1, a2, a3, a5, a6, a7, a8⟩, m2⟩ := hM
  refine ⟨⟨a1, a2, a3, a5, a6, fun x hx => ⟨(a7 x hx).1, (a7 x hx).2.1, fun h hq => ?_⟩, a8⟩, m2⟩
  by_cases e : x = im t
  · subst e
    have h' : 2 ≤ G.1 (im t) := h
    obtain ⟨z1, z2, z3, z4⟩ := hK (by rw [← hg]; exact h')
    rw [show (gSet G (im t) va vb).2.1 (im t) = va from if_pos rfl, show (gSet G (im t) va vb).2.2 (im t) = vb from if_pos rfl]
    refine ⟨z1, z2, fun h3 => ?_⟩
    have h3' : G.1 (im t) ≠ 3 := h3
    obtain ⟨z5, z6, _⟩ := z4 (by rw [← hg]; exact h3')
    exact ⟨z5, z6⟩
  · rw [show (gSet G (im t) va vb).2.1 x = G.2.1 x from if_neg e, show (gSet G (im t) va vb).2.2 x = G.2.2 x from if_neg e]
    exact (a7 x hx).2.2 h (fun s hs => by
      rcases List.mem_append.mp hs with q | q
      · rw [List.mem_singleton.mp q]; exact fun k => e k.symm
      · exact hq s q)
theorem cmS.set {N0 S Sh : Nat} {r : Nat → Nat} {N : Nat} {G : tG} {hl : Nat → List Nat} {hv : Nat → Nat} {H : Nat} {im : Nat → Nat} {SL : List Nat} {o : Nat} {Q : List Nat} {z : Prop} {t k : Nat} {x : Int32} (hM : cmS N0 S r N G hl hv H Sh im SL [t] o Q z σ) (hk : k = 167 ∨ k = 168) : cmS N0 S r N G hl hv H Sh im SL [t] o Q z (wr σ k (im t) x) := by
  obtain ⟨⟨a1, a2, a3, a5, a6, a7, a8⟩, m2, m3, m4, m5, m6, m7, m8, m9⟩ := hM
  have w : frM [167, 168] [] σ (wr σ k (im t) x) := frM_wr (by rcases hk with h | h <;> subst h <;> rfl) (by omega)
  refine ⟨⟨by rw [w.2 63 rfl]; exact a1, a2, a3, a5.fr (fun i => w.rd (j := 169) rfl i), a6, fun y hy => ⟨by rw [w.rd (j := 166) rfl]; exact (a7 y hy).1, (a7 y hy).2.1, fun h hq => ?_⟩, a8⟩, m2.fr w rfl ⟨rfl, rfl, rfl⟩, m3.fr w rfl ⟨rfl, rfl⟩, m4.fr w rfl rfl, m5.congr (fun i _ _ => w.rd (j := 176) rfl i), fun s hs => by rw [w.rd (j := 171) rfl]; exact m6 s hs, fun s hs => by rw [w.rd (j := 173) rfl]; exact m7 s hs, fun hz => by rw [w.rd (j := 173) rfl]; exact m8 hz, m9⟩
  have hne : y ≠ im t := fun e => hq t (List.mem_append_left _ (List.mem_singleton.mpr rfl)) e.symm
  rw [wr_nei hne, wr_nei hne]
  exact (a7 y hy).2.2 h hq
theorem cmS.fr1 {N0 S Sh : Nat} {r : Nat → Nat} {N : Nat} {G : tG} {hl : Nat → List Nat} {hv : Nat → Nat} {H : Nat} {im : Nat → Nat} {SL cur : List Nat} {o : Nat} {Q : List Nat} {z : Prop} (hM : cmS N0 S r N G hl hv H Sh im SL cur o Q z σ) (w : frM [169] [] σ σ') (hT : LNM N r σ') : cmS N0 S r N G hl hv H Sh im SL cur o Q z σ' := by
  obtain ⟨m1, m2, m3, m4, m5, m6, m7, m8, m9⟩ := hM
  exact ⟨m1.M w rfl ⟨rfl, rfl, rfl⟩ hT, m2.fr w rfl ⟨rfl, rfl, rfl⟩, m3.fr w rfl ⟨rfl, rfl⟩, m4.fr w rfl rfl, m5.congr (fun i _ _ => w.rd (j := 176) rfl i), fun s hs => by rw [w.rd (j := 171) rfl]; exact m6 s hs, fun s hs => by rw [w.rd (j := 173) rfl]; exact m7 s hs, fun hz => by rw [w.rd (j := 173) rfl]; exact m8 hz, m9⟩
/-- a part of the one at hand is found and met -/
theorem part_c {N0 S b1 b2 : Nat} {G0 : tG} {r : Nat → Nat} {hl0 : Nat → List Nat} {hv0 : Nat → Nat} {H0 : Nat} {RS : Nat → Prop} (hB : cpB N0 G0 r hl0 hv0 H0 RS b1 b2) (h0 : ∀ x, G0.1 x ≤ 4) (hi1 : ∀ x, G0.1 x = 1 ↔ x = 0) (hb : N0 + b1 < 99990) (hS2 : S < 2147483648)
    {N : Nat} {G : tG} {hl : Nat → List Nat} {hv : Nat → Nat} {H Sh : Nat} {im : Nat → Nat} {SL : List Nat} {PL : List (Nat × Nat)} {cur : List Nat} {o : Nat} {Q : List Nat} {z : Prop} (hI : cpI N0 G0 r hl0 hv0 H0 RS N G hl hv H im SL PL cur (nz Q)) (hM : cmS N0 S r N G hl hv H Sh im SL cur o Q z σ) (hoQ : o + Q.length < 100000) {u zc : Nat} (hu : u < N0) (hRu : RS (r u)) (hzc : z ∨ 1 ≤ zc) (hcnt : o + Q.length + zc ≤ SL.length + 2) (d : Nat) :
    ∃ (s1 σ' : tvS) (N' : Nat) (G' : tG) (im' : Nat → Nat) (SL' Q' : List Nat) (z' : Prop) (zc' v : Nat), rn L xs (d + 3) 337 0 [.ref 123, .int (i32 u), jv, jv, jv] [] σ = some (.inl (some (.int (i32 (r u : Int)))), s1) ∧ rn L xs (d + 3) 339 0 [.ref 123, .int (i32 (r u : Int)), .int (i32 (o + Q.length : Nat))] [] s1 = some (.inl (some (.int (i32 (o + Q'.length : Nat)))), σ') ∧ rd σ' 173 (r u) = i32 (v : Int) ∧ v < N' ∧ cov G0 r SL' im' u v ∧
      cpI N0 G0 r hl0 hv0 H0 RS N' G' hl hv H im' SL' PL cur (nz Q') ∧ cmS N0 S r N' G' hl hv H Sh im' SL' cur o Q' z' σ' ∧ N ≤ N' ∧ (∀ s, s ∈ SL → s ∈ SL' ∧ im' s = im s) ∧ (z → z') ∧ (z' ∨ 1 ≤ zc') ∧ o + Q'.length + zc' ≤ SL'.length + 2 ∧ 2 * (b1 - SL'.length) + Q'.length + 2 * zc' ≤ 2 * (b1 - SL.length) + Q.length + 2 * zc ∧ (∀ x, x < N → G'.1 x = G.1 x ∧ G'.2.1 x = G.2.1 x ∧ G'.2.2 x = G.2.2 x) ∧ frCM N σ σ' ∧ (∀ y, y ∈ Q' → y ∈ Q ∨ RS y) := by
  have hN := hM.1.2.2.1
  have hNN : N0 ≤ N := by rw [hI.1]; omega
  obtain ⟨s1, f1, T1, w1⟩ := find_MQ (L := L) (xs := xs) hM.1 (show u < N by omega) (d + 2) jv jv jv
  have M1 := hM.fr1 w1 T1.2.2.2.1
  obtain ⟨σ', N', G', im', SL', Q1, z', a1, I3, M3, a2, a3, ext, a5, a6, a7, a8, fr3⟩ := meet_c (L := L) (xs := xs) hB h0 hi1 hb hS2 hI M1 hoQ hRu d
  have hSL1 : SL'.length ≤ b1 := hB.2.1 SL' I3.2.1 (fun t ht => ⟨(I3.2.2.1 t ht).1, (I3.2.2.1 t ht).2.1⟩)
  have hSLle : SL.length ≤ SL'.length := nodup_len SL SL' hI.2.1 (fun s hs => (ext s hs).1)
  have frr : frCM N σ σ' := (w1.CM rfl rfl ⟨rfl, rfl, rfl, rfl, rfl⟩).trans fr3
  have cvv : ∃ v : Nat, rd σ' 173 (r u) = i32 (v : Int) ∧ v < N' ∧ cov G0 r SL' im' u v := by
    rcases a2 with q | ⟨q, q2⟩
    · have y := I3.2.2.1 _ q
      exact ⟨im' (r u), M3.2.2.2.2.2.2.1 _ q, y.2.2.2.1, .inr ⟨y.2.1, q, rfl⟩⟩
    · exact ⟨0, by rw [q]; exact M3.2.2.2.2.2.2.2.1 q2, by omega, .inl ⟨(hi1 _).mpr q, q.symm⟩⟩
  obtain ⟨v, v1, v2, v3⟩ := cvv
  rcases a7 with e | ⟨e, e2 | ⟨e2, e3, e4, e5⟩⟩
  · subst e
    rw [List.append_nil] at a1 I3 M3
    exact ⟨s1, σ', N', G', im', SL', Q, z', zc, v, f1, a1, v1, v2, v3, I3, M3, a3, ext, a5, hzc.elim (fun k => .inl (a5 k)) .inr, by omega, by omega, a6, frr, fun y hy => .inl hy⟩
  · subst e
    have hl2 : (Q ++ [r u]).length = Q.length + 1 := by rw [List.length_append]; rfl
    exact ⟨s1, σ', N', G', im', SL', Q ++ [r u], z', zc, v, f1, a1, v1, v2, v3, I3, M3, a3, ext, a5, hzc.elim (fun k => .inl (a5 k)) .inr, by omega, by omega, a6, frr, fun y hy => (List.mem_append.mp hy).elim .inl (fun q => .inr (by rw [List.mem_singleton.mp q]; exact hRu))⟩
  · subst e
    have hl2 : (Q ++ [r u]).length = Q.length + 1 := by rw [List.length_append]; rfl
    have hz1 : 1 ≤ zc := hzc.elim (fun k => absurd k e3) id
    exact ⟨s1, σ', N', G', im', SL', Q ++ [r u], z', zc - 1, v, f1, a1, v1, v2, v3, I3, M3, a3, ext, a5, .inl e4, by rw [e5]; omega, by rw [e5]; omega, a6, frr, fun y hy => (List.mem_append.mp hy).elim .inl (fun q => .inr (by rw [List.mem_singleton.mp q]; exact hRu))⟩
end CPW
