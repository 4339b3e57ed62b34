/-! TYPES OF THE COMPONENT: alike, whole -/
theorem kid_a {G : tG} {t : Nat} : G.2.1 t ∈ kids G t := by
  unfold kids
  split
  · exact List.mem_singleton.mpr rfl
  · exact List.mem_cons_of_mem _ (List.mem_singleton.mpr rfl)
theorem kid_b {G : tG} {t : Nat} (h : G.1 t ≠ 3) : G.2.2 t ∈ kids G t := by
  unfold kids
  rw [if_neg h]
  exact List.mem_cons_self
/-- closed ones without a ring: nothing is a ring -/
theorem ring_ac {N : Nat} {G : tG} {r0 r : Nat → Nat} {x1 x2 : Nat} {Q : Nat → Prop} {dp : Nat → Nat} {c : Nat} (h0 : gP G r0) (h : alC G r0 x1 x2 r) (hC : rC N G r Q dp c) (hx : G.1 (r x1) < 2 ∨ Q (r x1)) : gAc G (gRt r) := by
  obtain ⟨d0, D0, hD0, hd0, hk0⟩ := h0.2.2.2
  have hB := h.B
  have kk : ∀ z, 2 ≤ G.1 z → G.1 (r z) = G.1 z ∧ r (G.2.1 z) = r (G.2.1 (r z)) ∧ (G.1 z ≠ 3 → r (G.2.2 z) = r (G.2.2 (r z))) := by
    intro z hz
    have k1 := hB.2.1 z (by omega)
    have k2 := hB.2.2 z (r z) (hB.1 z).symm hz k1.symm
    exact ⟨k1, k2.1, k2.2⟩
  have wi := h.within (fun z => Q (r z) ∨ G.1 (r z) < 2) (fun x y e q => by rw [← e]; exact q) (hx.elim .inr .inl) (fun z hz hk => by
    obtain ⟨k1, k2, k3⟩ := kk z hk
    have hq : Q (r z) := hz.elim id (fun q => by omega)
    obtain ⟨_, _, _, _, _, h6⟩ := hC (r z) hq
    refine ⟨?_, fun h3 => ?_⟩
    · rw [k2]; exact (h6 _ kid_a).elim .inr (fun q => .inl q.1)
    · rw [k3 h3]; exact (h6 _ (kid_b (by omega))).elim .inr (fun q => .inl q.1)) h0.2.2.1
  let f : Nat → Nat := fun z => @ite Nat (Q (r z)) (Classical.propDecidable _) (dp (r z)) (if G.1 (r z) < 2 then 0 else c + 1 + d0 z)
  have f1 : ∀ z, Q (r z) → f z = dp (r z) := fun z h => @if_pos _ (Classical.propDecidable _) h _ _ _
  have f2 : ∀ z, ¬ Q (r z) → f z = if G.1 (r z) < 2 then 0 else c + 1 + d0 z := fun z h => @if_neg _ (Classical.propDecidable _) h _ _ _
  refine ⟨f, c + 1 + D0, fun z => ?_, fun x y e => ?_, fun x hx => ?_⟩
  · by_cases q : Q (r z)
    · rw [f1 z q]; have := (hC _ q).2.2.2.2.1; omega
    · rw [f2 z q]; have := hD0 z; split <;> omega
  · have e : r x = r y := e
    by_cases q : Q (r x)
    · rw [f1 x q, f1 y (e ▸ q), e]
    · rw [f2 x q, f2 y (e ▸ q), e]
      by_cases u : G.1 (r y) < 2
      · rw [if_pos u, if_pos u]
      · rw [if_neg u, if_neg u]
        rcases wi x y e with w | w
        · rw [hd0 x y w]
        · rcases w.1 with w | w
          · exact absurd w q
          · rw [e] at w; exact absurd w u
  · obtain ⟨k1, k2, k3⟩ := kk x hx
    have low : ∀ y y', y' ∈ kids G (r x) → r y = r y' → d0 y < d0 x → f y < f x := by
      intro y y' hy' ey hd
      by_cases q : Q (r x)
      · obtain ⟨_, _, _, h4, _, h6⟩ := hC (r x) q
        rw [f1 x q]
        rcases h6 y' hy' with w | ⟨w, w2⟩
        · have nq : ¬ Q (r y) := fun q2 => by have := (hC _ q2).2.1; rw [ey] at this; omega
          rw [f2 y nq, if_pos (by rw [ey]; exact w)]; exact h4
        · rw [f1 y (by rw [ey]; exact w), ey]; exact w2
      · rw [f2 x q, if_neg (by omega)]
        by_cases q2 : Q (r y)
        · rw [f1 y q2]; have := (hC _ q2).2.2.2.2.1; omega
        · rw [f2 y q2]; split <;> omega
    exact ⟨low _ _ kid_a k2 (hk0 x hx).1, fun h3 => low _ _ (kid_b (by omega)) (k3 h3) ((hk0 x hx).2 h3)⟩
section ALC2
variable {L : Nat} {xs : Nat → Int32} {σ σ' : tvS}
/-- is there a ring from x on? -/
theorem round_c {K1 K2 N : Nat} {G : tG} {r : Nat → Nat} {S x : Nat} (hB : gB G r) (hT : TC N G r σ) (hR : ROOM K1 K2 σ) (hS : STP N S σ) (hS2 : S + 2 < 2147483648) (hx : x < N) (d : Nat) (v2 : Value) :
    (∃ σ', rn L xs (d + 3) 96 0 [.ref 50, .int (i32 x), v2] [] σ = some (.inl (some (.int 1)), σ') ∧ ¬ gAc G (gRt r) ∧ ROOM K1 K2 σ' ∧ frT FRN [61] [12, 14] σ σ') ∨
    (∃ σ' Q dp c, rn L xs (d + 3) 96 0 [.ref 50, .int (i32 x), v2] [] σ = some (.inl (some (.int 0)), σ') ∧ TC N G r σ' ∧ ROOM K1 K2 σ' ∧ STP N (S + 2) σ' ∧ rC N G r Q dp c ∧ (G.1 (r x) < 2 ∨ Q (r x)) ∧ frT FRN [61] [12, 14] σ σ') := by
  have hN := hT.lt hR
  have e2 : rd σ 50 12 + 2 = i32 ((S + 2 : Nat) : Int) := by rw [hS.1, show (2 : Int32) = i32 2 from rfl, i32_add]; rfl
  have w1 : frT [] [] [12, 14] σ (wr (wr σ 50 12 (i32 ((S + 2 : Nat) : Int))) 50 14 0) := (frT_w50 rfl).trans (frT_w50 rfl)
  have T1 := hT.T w1 rfl ⟨rfl, rfl, rfl, rfl⟩ (fun _ _ _ => rfl)
  have R1 : ROOM K1 K2 (wr (wr σ 50 12 (i32 ((S + 2 : Nat) : Int))) 50 14 0) := hR.wr.wr
  have hrx : r x < N := hT.rlt hx
  obtain ⟨s2, f1, T2, R2, w2⟩ := find_C (L := L) (xs := xs) T1 R1 hx (d + 1) jv jv jv
  have W0 : WK [] (wr (wr σ 50 12 (i32 ((S + 2 : Nat) : Int))) 50 14 0) := ⟨wr_self _ _ _ _, Nat.zero_le _, trivial⟩
  have q2 := W0.fr w2 rfl rfl
  obtain ⟨s3, p3, q3, R3, w3⟩ := push_T (L := L) (xs := xs) R2 q2 (by show 0 < _; omega) ((r x : Nat) : Int) (d + 1)
  have T3 := T2.T w3 rfl ⟨rfl, rfl, rfl, rfl⟩ (fun j h1 h2 => n5158 h1 h2)
  have c57 : ∀ y, rd s3 57 y = rd σ 57 y := fun y => by rw [w3.rd (j := 57) rfl, w2.1 57 rfl, wr_nek (by decide), wr_nek (by decide)]
  have c12 : rd s3 50 12 = i32 ((S + 2 : Nat) : Int) := by rw [w3.2 12 rfl, w2.1 50 rfl, wr_nei (by decide), wr_self]
  have fr3 : frT FRN [61] [12, 14] σ s3 := (w1.sub rfl rfl rfl).trans (((w2.T [] [] rfl).sub rfl rfl rfl).trans (w3.sub rfl rfl rfl))
  have nS : ∀ y, y < N → ¬ (rd s3 57 y = i32 (((S + 2 : Nat) : Int) - 1) ∨ rd s3 57 y = i32 ((S + 2 : Nat) : Int)) := by
    intro y hy
    obtain ⟨s, h1, h2⟩ := hS.2 y hy
    rw [c57, h2]
    rintro (q | q)
    · have := (i32_inj (by omega) (by omega) (by omega) (by omega)).mp q; omega
    · have := (i32_inj (by omega) (by omega) (by omega) (by omega)).mp q; omega
  have I3 : rI N G r (S + 2) x (fun _ => False) (fun _ => 0) 0 [((r x : Nat) : Int)] s3 := by
    refine ⟨⟨c12, fun y hy => ?_⟩, fun e he => .inl ⟨r x, hrx, List.mem_singleton.mp he⟩, fun t ht q => absurd (.inl q) (nS t ht), ⟨fun q => absurd q (by omega), trivial⟩, ⟨fun t ht => absurd ht (by omega), trivial⟩, fun dd _ => ⟨fun m hm => (by cases hm), trivial⟩, fun t ht => ht.elim, fun t => ⟨fun q => q.elim, fun q => absurd (.inr q.2) (nS t q.1)⟩, .inr (.inr (.inl ⟨r x, List.mem_singleton.mpr rfl, hB.1 x⟩))⟩
    obtain ⟨s, h1, h2⟩ := hS.2 y hy
    exact ⟨s, by omega, by rw [c57]; exact h2⟩
  have hct := ct_le (p := fun y => ¬ (rd s3 57 y = i32 (((S + 2 : Nat) : Int) - 1) ∨ rd s3 57 y = i32 ((S + 2 : Nat) : Int))) N
  have start : rn L xs (d + 3) 96 0 [.ref 50, .int (i32 x), v2] [] σ = rn L xs (d + 3) 96 24 [.ref 50, .int (i32 x), dj (dj v2)] [] s3 := by
    rw [e96_0 (d + 2), e2, bI_ok f1, bV_ok p3]
  rw [start]
  rcases rnd_loop (L := L) (xs := xs) (K1 := K1) (K2 := K2) hB (by omega) hS2 d _ _ s3 _ _ _ (dj (dj v2)) T3 R3 q3 I3 (by show 1 + _ ≤ _; omega) (Nat.le_refl _) with ⟨σ', i1, i2, i3, i4⟩ | ⟨σ', Q, dp, c, i1, i2, i3, i4, i5, i6, i7⟩
  · exact .inl ⟨σ', i1 _, i2, i3, fr3.trans (i4.sub rfl rfl rfl)⟩
  · exact .inr ⟨σ', Q, dp, c, i1 _, i2, i3, i4, i5, i6, fr3.trans (i7.sub rfl rfl rfl)⟩
def FAK : List Nat := [52, 55, 56, 57, 60, 61]
/-- two are made alike, or cannot be -/
theorem alike_c {K1 K2 N : Nat} {G : tG} {r : Nat → Nat} {hl : Nat → List Nat} {hv : Nat → Nat} {H S x1 x2 : Nat} (hP : gP G r) (hT : TC N G r σ) (hH : HO N r hl hv H σ) (hK : HK N G r hl) (hR : ROOM K1 K2 σ) (hS : STP N S σ) (hS2 : S + 2 < 2147483648) (h1 : x1 < N) (h2 : x2 < N) (d : Nat) (v3 v4 v5 v6 : Value) :
    (∃ σ', rn L xs (d + 4) 94 0 [.ref 50, .int (i32 x1), .int (i32 x2), v3, v4, v5, v6] [] σ = some (.inl (some (.int 0)), σ') ∧ alF G r x2 x1 ∧ ROOM K1 K2 σ' ∧ frT FAK [61] [12, 14] σ σ') ∨
    (∃ σ' r' hl', rn L xs (d + 4) 94 0 [.ref 50, .int (i32 x1), .int (i32 x2), v3, v4, v5, v6] [] σ = some (.inl (some (.int 1)), σ') ∧ TC N G r' σ' ∧ HO N r' hl' hv H σ' ∧ HK N G r' hl' ∧ ROOM K1 K2 σ' ∧ STP N (S + 2) σ' ∧ alS G r x2 x1 r' ∧ alH r (hC hl hv) r' (hC hl' hv) ∧ frT FAK [61] [12, 14] σ σ') := by
  have hN := hT.lt hR
  have w1 : frT [] [] [14] σ (wr σ 50 14 0) := frT_w50 rfl
  have T1 := hT.T w1 rfl ⟨rfl, rfl, rfl, rfl⟩ (fun _ _ _ => rfl)
  have W1 : WK [] (wr σ 50 14 0) := ⟨wr_self _ _ _ _, Nat.zero_le _, trivial⟩
  obtain ⟨s2, p2, q2, R2, w2⟩ := push_T (L := L) (xs := xs) (hR.wr (k := 50) (i := 14) (x := 0)) W1 (by show 0 < _; omega) (x1 : Int) (d + 2)
  obtain ⟨s3, p3, q3, R3, w3⟩ := push_T (L := L) (xs := xs) R2 q2 (by show 1 < _; omega) (x2 : Int) (d + 2)
  have w13 : frT [61] [61] [14] σ s3 := (w1.sub rfl rfl rfl).trans (w2.trans w3)
  have T3 := hT.T w13 rfl ⟨rfl, rfl, rfl, rfl⟩ (fun j h1 h2 => n5158 h1 h2)
  have H3 := hH.T w13 rfl ⟨rfl, rfl, rfl, rfl⟩ ⟨rfl, rfl⟩
  rw [e94_0 (d + 3), bV_ok p2, bV_ok p3]
  have hct := ct_le (p := fun y => r y = y) N
  rcases al_loop (L := L) (xs := xs) (K1 := K1) (K2 := K2) (h0 := hC hl hv) (d + 2) (i32 x1) _ [(x2, x1)] r hl s3 (.int (i32 x2)) (dj (dj v3)) (dj (dj v4)) (dj (dj v5)) (dj (dj v6)) T3 H3 hK R3 (gU.init x2 x1 hP) alH.refl (fun p hp => by cases List.mem_singleton.mp hp; exact ⟨h2, h1⟩) q3 (by show 1 + _ ≤ _; omega) (Nat.le_refl _) with ⟨σ', i1, i2, i3, i4⟩ | ⟨s4, r', hl', u2, u3, u4, u5, u6, i1, i2, i3, i4, i5, i6, i7, i8⟩
  · exact .inl ⟨σ', i1, i2, i3, (w13.sub rfl rfl rfl).trans (i4.sub rfl rfl rfl)⟩
  · have w4 : frT FAL [61] [14] σ s4 := (w13.sub rfl rfl rfl).trans i8
    have S4 : STP N S s4 := hS.T w4 rfl rfl
    rw [i1, e94_209 (d + 3)]
    rcases round_c (L := L) (xs := xs) i6.B i2 i5 S4 hS2 h1 d jv with ⟨s5, j1, j2, j3, j4⟩ | ⟨s5, Q, dp, c, j1, j2, j3, j4, j5, j6, j7⟩
    · refine .inl ⟨s5, ?_, i6.ring j2, j3, (w4.sub rfl rfl rfl).trans (j4.sub rfl rfl rfl)⟩
      rw [bI_ok j1, show (1 : Int32) = i32 1 from rfl, c1_ne (by omega) (by omega), c_t (by omega), e94_221, e94_222, b01_0]; rfl
    · refine .inr ⟨s5, r', hl', ?_, j2, i3.T j7 rfl ⟨rfl, rfl, rfl, rfl⟩ ⟨rfl, rfl⟩, i4, j3, j4, ⟨i6, ?_⟩, i7, (w4.sub rfl rfl rfl).trans (j7.sub rfl rfl rfl)⟩
      · rw [bI_ok j1, show (0 : Int32) = i32 0 from rfl, c1_ne (by omega) (by omega), c_f (by omega), e94_222, b01_1]; rfl
      · exact ring_ac hP i6 j5 (by rw [i6.2.2.2.2.1]; exact j6)
end ALC2
