/-! TYPES OF THE MODEL: alike, whole -/
theorem alC.sym {G : tG} {r0 r : Nat → Nat} {x1 x2 : Nat} (h : alC G r0 x1 x2 r) : alC G r0 x2 x1 r :=
  ⟨h.1, h.2.1, h.2.2.1, h.2.2.2.1, h.2.2.2.2.1.symm, fun R hR hc h0 hp => h.2.2.2.2.2.1 R hR hc h0 (hR.2.1 _ _ hp), h.2.2.2.2.2.2⟩
theorem alS.sym {G : tG} {r0 r : Nat → Nat} {x1 x2 : Nat} (h : alS G r0 x1 x2 r) : alS G r0 x2 x1 r := ⟨h.1.sym, h.2⟩
theorem alF.sym {G : tG} {r0 : Nat → Nat} {x1 x2 : Nat} (h : alF G r0 x1 x2) : alF G r0 x2 x1 := fun R hR hc h0 hp => h R hR hc h0 (hR.2.1 _ _ hp)
section ALM2
variable {L : Nat} {xs : Nat → Int32} {σ σ' : tvS}
theorem ring_m {N : Nat} {G : tG} {r : Nat → Nat} {S x : Nat} (hr2 : ∀ x, r (r x) = r x) (hB : ct (fun y => 2 ≤ G.1 y) N ≤ 49990) (hT : TM N G r σ) (hM : MT N S σ) (hS : S + 1 < 2147483648) (hx : x < N) (d : Nat) (v2 v3 v4 v5 v6 : Value) :
    (∃ σ', rn L xs (d + 2) 346 0 [.ref 123, .int (i32 x), v2, v3, v4, v5, v6] [] σ = some (.inl (some (.int 1)), σ') ∧ ¬ gAc G (gRt r) ∧ frM [169, 171, 172, 176] [72] σ σ') ∨
    (∃ σ' Q dp c, rn L xs (d + 2) 346 0 [.ref 123, .int (i32 x), v2, v3, v4, v5, v6] [] σ = some (.inl (some (.int 0)), σ') ∧ TM N G r σ' ∧ MT N (S + 1) σ' ∧ rC N G r Q dp c ∧ (G.1 (r x) < 2 ∨ Q (r x)) ∧ frM [169, 171, 172, 176] [72] σ σ') := by
  have hN := hT.2.2.1
  have e1 : rd σ 123 72 + 1 = i32 ((S + 1 : Nat) : Int) := by rw [hM.1, show (1 : Int32) = i32 1 from rfl, i32_add]; rfl
  have w1 : frM [] [72] σ (wr σ 123 72 (i32 ((S + 1 : Nat) : Int))) := frM_w rfl
  have T1 := hT.fr w1 rfl ⟨rfl, rfl, rfl, rfl⟩
  obtain ⟨s2, f2, T2, w2⟩ := find_M (L := L) (xs := xs) T1 hx d jv jv jv
  have w3 : frM [176] [] s2 (wr s2 176 0 (i32 (r x : Int))) := frM_wr rfl (by decide)
  have T3 := T2.fr w3 rfl ⟨rfl, rfl, rfl, rfl⟩
  have hr := hT.rlt hx
  have w13 : frM [169, 176] [72] σ (wr s2 176 0 (i32 (r x : Int))) := (w1.sub rfl rfl).trans ((w2.sub rfl rfl).trans (w3.sub rfl rfl))
  have nm : ∀ y, y < N → ¬ mkd (S + 1) (wr s2 176 0 (i32 (r x : Int))) y := fun y hy q => by
    obtain ⟨⟨s, a, b⟩, _⟩ := hM.2 y hy
    unfold mkd at q
    rw [w13.rd (j := 171) rfl, b] at q
    have := (i32_inj (by omega) (by omega) (by omega) (by omega)).mp q
    omega
  have nd : ∀ y, y < N → ¬ dnd (S + 1) (wr s2 176 0 (i32 (r x : Int))) y := fun y hy q => by
    obtain ⟨_, ⟨s, a, b⟩⟩ := hM.2 y hy
    unfold dnd at q
    rw [w13.rd (j := 172) rfl, b] at q
    have := (i32_inj (by omega) (by omega) (by omega) (by omega)).mp q
    omega
  have M3 : MT N (S + 1) (wr s2 176 0 (i32 (r x : Int))) := ⟨by rw [w3.2 72 rfl, w2.2 72 rfl, wr_self], fun y hy => by
    obtain ⟨⟨s, a, b⟩, ⟨s', a', b'⟩⟩ := hM.2 y hy
    rw [w13.rd (j := 171) rfl, w13.rd (j := 172) rfl]
    exact ⟨⟨s, by omega, b⟩, ⟨s', by omega, b'⟩⟩⟩
  have I3 : qI N G r (S + 1) x (fun _ => 0) 0 [(r x, false)] (wr s2 176 0 (i32 (r x : Int))) := by
    refine ⟨M3, ⟨wr_self _ _ _ _, trivial⟩, fun e he => ?_, fun t ht q => absurd q (nm t ht), fun t ht q => absurd q (nd t ht), ⟨fun m hm => (by cases hm), trivial⟩, ⟨fun k => absurd k Bool.false_ne_true, trivial⟩, fun dd _ => ⟨fun m hm => (by cases hm), trivial⟩, fun t ht => absurd ht.1 (nd t ht.2.2), .inr (.inr ⟨(r x, false), List.mem_singleton.mpr rfl, rfl⟩)⟩
    rw [List.mem_singleton.mp he]
    exact ⟨hr, hr2 x, fun k => absurd k Bool.false_ne_true⟩
  have ubl : ub N G (S + 1) (wr s2 176 0 (i32 (r x : Int))) ≤ 49990 := by
    refine Nat.le_trans (Nat.le_of_eq ?_) hB
    exact ct_congr N (fun y hy => ⟨fun k => k.1, fun k => ⟨k, nm y hy⟩⟩)
  have start : rn L xs (d + 2) 346 0 [.ref 123, .int (i32 x), v2, v3, v4, v5, v6] [] σ = rn L xs (d + 2) 346 26 [.ref 123, .int (i32 x), .int (i32 ([(r x, false)] : List (Nat × Bool)).length), dj v3, dj v4, dj v5, dj v6] [] (wr s2 176 0 (i32 (r x : Int))) := by
    rw [e346_0 (d + 1), e1, bI_ok f2]; rfl
  rw [start]
  rcases rng_loop (L := L) (xs := xs) (B := 49990) hr2 (by omega) hS d _ _ _ _ _ (dj v3) (dj v4) (dj v5) (dj v6) T3 I3 (by show 1 + _ ≤ _; omega) (Nat.le_refl _) with ⟨σ', i1, i2, i3⟩ | ⟨σ', Q, dp, c, i1, i2, i3, i4, i5, i6⟩
  · exact .inl ⟨σ', i1 _, i2, (w13.sub rfl rfl).trans (i3.sub rfl rfl)⟩
  · exact .inr ⟨σ', Q, dp, c, i1 _, i2, i3, i4, i5, (w13.sub rfl rfl).trans (i6.sub rfl rfl)⟩
def FMB : List Nat := [169, 170, 171, 172, 175, 176, 177, 183]
/-- two are made alike, or cannot be -/
theorem alike_m {N : Nat} {G : tG} {r : Nat → Nat} {hl : Nat → List Nat} {hv : Nat → Nat} {H Sm Sh x1 x2 : Nat} (hN : N ≤ 99990) (hB : ct (fun y => 2 ≤ G.1 y) N ≤ 49990) (hP : gP G r) (hM : MS N G r hl hv H Sm Sh σ) (hS1 : Sm + N < 2147483630) (hS2 : Sh + N < 2147483630) (h1 : x1 < N) (h2 : x2 < N) (d : Nat) (v3 v4 v5 v6 : Value) :
    (∃ σ', rn L xs (d + 4) 341 0 [.ref 123, .int (i32 x1), .int (i32 x2), v3, v4, v5, v6] [] σ = some (.inl (some (.int 0)), σ') ∧ alF G r x1 x2 ∧ frM FMB [72, 84] σ σ') ∨
    (∃ σ' r' hl' Sm' Sh', rn L xs (d + 4) 341 0 [.ref 123, .int (i32 x1), .int (i32 x2), v3, v4, v5, v6] [] σ = some (.inl (some (.int 1)), σ') ∧ MS N G r' hl' hv H Sm' Sh' σ' ∧ Sm' ≤ Sm + N + 1 ∧ Sh' ≤ Sh + N ∧ alS G r x1 x2 r' ∧ alH r (hC hl hv) r' (hC hl' hv) ∧ frM FMB [72, 84] σ σ') := by
  have w1 : frM [177] [] σ (wr (wr σ 177 0 (i32 (x1 : Int))) 177 1 (i32 (x2 : Int))) := (frM_wr rfl (by decide)).trans (frM_wr rfl (by decide))
  obtain ⟨hT, hH, hK, hMT, hMH⟩ := hM
  have hct := ct_le (p := fun y => r y = y) N
  have start : rn L xs (d + 4) 341 0 [.ref 123, .int (i32 x1), .int (i32 x2), v3, v4, v5, v6] [] σ = rn L xs (d + 4) 341 18 [.ref 123, .int (i32 x1), .int (i32 x2), .int (i32 (2 * ([(x1, x2)] : List (Nat × Nat)).length : Nat)), v4, v5, v6] [] (wr (wr σ 177 0 (i32 (x1 : Int))) 177 1 (i32 (x2 : Int))) := by
    rw [e341_0]; rfl
  rw [start]
  rcases alm_loop (L := L) (xs := xs) (h0 := hC hl hv) (Bm := Sm + N) (Bh := Sh + N) hN (by omega) (by omega) d (i32 x2) _ [(x1, x2)] r hl Sm Sh _ (.int (i32 x1)) v4 v5 v6 ⟨hT.fr w1 rfl ⟨rfl, rfl, rfl, rfl⟩, hH.fr w1 rfl ⟨rfl, rfl, rfl⟩, hK, hMT.fr w1 rfl ⟨rfl, rfl⟩, hMH.fr w1 rfl rfl⟩ (gU.init x1 x2 hP) alH.refl (fun p hp => by cases List.mem_singleton.mp hp; exact ⟨h1, h2⟩) ⟨by rw [wr_nei (by decide)]; exact wr_self _ _ _ _, wr_self _ _ _ _, trivial⟩ (by show 1 + _ ≤ _; omega) (by omega) (by omega) (Nat.le_refl _) with ⟨σ', i1, i2, i3⟩ | ⟨s4, r', hl', Sm', Sh', u1, u3, u4, u5, u6, i1, ⟨iT, iH, iK, iM, ih⟩, i3, i4, i5, i6, i7⟩
  · exact .inl ⟨σ', i1, i2, (w1.sub rfl rfl).trans (i3.sub rfl rfl)⟩
  · rw [i1, e341_254 (d + 3)]
    have w4 : frM FMB [72, 84] σ s4 := (w1.sub rfl rfl).trans (i7.sub rfl rfl)
    rcases ring_m (L := L) (xs := xs) i5.1 hB iT iM (by omega) h2 (d + 1) jv jv jv jv jv with ⟨s5, j1, j2, j3⟩ | ⟨s5, Q, dp, c, j1, j2, j3, j4, j5, j6⟩
    · refine .inl ⟨s5, ?_, i5.ring j2, w4.trans (j3.sub rfl rfl)⟩
      rw [bI_ok j1, show (1 : Int32) = i32 1 from rfl, c1_ne (by omega) (by omega), c_t (by omega), e341_266, e341_267, b01_0]; rfl
    · refine .inr ⟨s5, r', hl', Sm' + 1, Sh', ?_, ⟨j2, iH.fr j6 rfl ⟨rfl, rfl, rfl⟩, iK, j3, ih.fr j6 rfl rfl⟩, by omega, i4, ⟨i5, ?_⟩, i6, w4.trans (j6.sub rfl rfl)⟩
      · rw [bI_ok j1, show (0 : Int32) = i32 0 from rfl, c1_ne (by omega) (by omega), c_f (by omega), e341_267, b01_1]; rfl
      · exact ring_ac hP i5 j4 (by rw [i5.2.2.2.2.1]; exact j5)
end ALM2
