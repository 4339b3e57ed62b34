/-! BOTH IN ONE MEMORY: every, pool; nothing runs -/
/-- nothing runs: the component -/
def IDL (pgs wd ev : Nat) (σ : tvS) : Prop := FRE pgs σ ∧ (rd σ 103 4 = i32 (pgs : Int) ∧ rd σ 103 5 = i32 (wd : Int) ∧ rd σ 117 7 = i32 (ev : Int)) ∧ rd σ 117 5 = 0 ∧ rd σ 117 6 = 0 ∧ rd σ 117 17 = 0 ∧ rd σ 100 2 = 0 ∧ rd σ 103 10 = 0 ∧ rd σ 103 20 = 0 ∧ rd σ 103 21 = 0 ∧ rd σ 103 22 = 0 ∧ rd σ 103 23 = 0
section CALLS2
variable {L : Nat} {xs : Nat → Int32} {σ τ : tvS} {pgs wd ev : Nat}
theorem range_m {lo hi : Int} (h1 : -2147483648 ≤ lo ∧ lo < 2147483648) (h2 : -2147483648 ≤ hi ∧ hi < 2147483648) (x : Int32) (d : Nat) : (lo ≤ x.toInt ∧ x.toInt ≤ hi → rn L xs (d + 1) 287 0 [.int x, .int (i32 lo), .int (i32 hi)] [] σ = some (.inl (some (.int 1)), σ)) ∧ (¬ (lo ≤ x.toInt ∧ x.toInt ≤ hi) → rn L xs (d + 1) 287 0 [.int x, .int (i32 lo), .int (i32 hi)] [] σ = some (.inl (some (.int 0)), σ)) := by
  refine ⟨fun h => ?_, fun h => ?_⟩
  · rw [e287_0, c2_ltx, i32_ti h1.1 h1.2, c_f (by omega), c2_gtx, i32_ti h2.1 h2.2, c_f (by omega), e287_15]; rfl
  · rw [e287_0, c2_ltx, i32_ti h1.1 h1.2]
    by_cases c : x.toInt < lo
    · rw [c_t c, e287_14, e287_15]; rfl
    · rw [c_f c, c2_gtx, i32_ti h2.1 h2.2, c_t (by omega), e287_14, e287_15]; rfl
/-- every, the calls -/
theorem every_call (x : Int32) (d : Nat) : (¬ (0 ≤ x.toInt ∧ x.toInt ≤ 10000) ∧ rn L xs (d + 2) 14 0 [.ref 0, .int x] [] σ = some (.inl (some (.int 0)), σ) ∧ rn L xs (d + 2) 393 0 [.ref 123, .int x] [] τ = some (.inl (some (.int 0)), wr τ 123 0 0)) ∨
    (∃ ev' : Nat, ev' ≤ 10000 ∧ x = i32 (ev' : Int) ∧ rn L xs (d + 2) 14 0 [.ref 0, .int x] [] σ = some (.inl (some (.int 1)), wr σ 117 7 (i32 (ev' : Int))) ∧ rn L xs (d + 2) 393 0 [.ref 123, .int x] [] τ = some (.inl (some (.int 1)), wr (wr τ 123 0 0) 123 121 (i32 (ev' : Int)))) := by
  have hr := range_m (L := L) (xs := xs) (σ := wr τ 123 0 0) (lo := 0) (hi := 10000) (by omega) (by omega) x d
  by_cases c : 0 ≤ x.toInt ∧ x.toInt ≤ 10000
  · right
    have p := hr.1 c
    have p : rn L xs (d + 1) 287 0 [.int x, .int 0, .int 10000] [] (wr τ 123 0 0) = some (.inl (some (.int 1)), wr τ 123 0 0) := p
    have ex : x = i32 ((x.toInt.toNat : Nat) : Int) := by rw [Int.toNat_of_nonneg c.1, i32_of]
    refine ⟨x.toInt.toNat, by omega, ex, ?_, ?_⟩
    · have p2 : rn L xs (d + 1) 253 0 [.ref 117, .int x] [] σ = some (.inl none, wr σ 117 7 x) := by rw [e253_0]
      rw [e14_0, c1_ltx, c_f (by omega), show (10000 : Int32) = i32 10000 from rfl, c2_lex, i32_ti (by omega) (by omega), c_t c.2, e14_13 (d + 1), bV_ok p2, ← ex]
    · rw [e393_0 (d + 1), bI_ok p, show pv_c1 .ne (1 : Int32) = true from rfl, cond_true, e393_18, ← ex]
  · left
    have p := hr.2 c
    have p : rn L xs (d + 1) 287 0 [.int x, .int 0, .int 10000] [] (wr τ 123 0 0) = some (.inl (some (.int 0)), wr τ 123 0 0) := p
    refine ⟨c, ?_, ?_⟩
    · rw [e14_0, c1_ltx]
      by_cases c2 : x.toInt < 0
      · rw [c_t c2, e14_11]
      · rw [c_f c2, show (10000 : Int32) = i32 10000 from rfl, c2_lex, i32_ti (by omega) (by omega), c_f (by omega), e14_11]
    · rw [e393_0 (d + 1), bI_ok p, show pv_c1 .ne (0 : Int32) = false from rfl, cond_false]
/-- it stops -/
theorem stop_c (hpg : pgs ≤ 400) (hp1 : 1 ≤ pgs) (h4 : rd σ 103 4 = i32 (pgs : Int)) (h5 : rd σ 103 5 = i32 (wd : Int)) (h7 : rd σ 117 7 = i32 (ev : Int)) (d : Nat) : ∃ σ', rn L xs (d + 3) 251 0 [.ref 117] [] σ = some (.inl none, σ') ∧ IDL pgs wd ev σ' ∧ frW [100, 103, 106, 117] σ σ' := by
  have p1 : rn L xs (d + 1) 216 0 [.ref 100] [] (wr σ 117 5 0) = some (.inl none, wr (wr σ 117 5 0) 100 2 0) := e216_0 d _
  obtain ⟨σ1, a1, a2, a3, a4⟩ := release_c (L := L) (xs := xs) (σ := wr (wr σ 117 5 0) 100 2 0) hpg hp1 (by rw [wr_nek (by decide), wr_nek (by decide)]; exact h4) d
  obtain ⟨σ2, e2⟩ : ∃ σ2, σ2 = wr σ1 117 17 0 := ⟨_, rfl⟩
  have p2 : rn L xs (d + 2) 252 0 [.ref 117, .int 0] [] σ = some (.inl none, σ2) := by rw [e252_0 (d + 1), bV_ok p1, bV_ok a1, ← e2]
  have w2 : frW [100, 103, 106, 117] σ σ2 := by rw [e2]; exact ((frW_wr rfl).trans (frW_wr rfl)).trans ((a4.sub rfl).trans (frW_wr rfl))
  have k2 : ∀ q, q ≠ 8 → q ≠ 9 → q ≠ 19 → rd σ2 103 q = rd σ 103 q := fun q q1 q2 q3 => by rw [e2, wr_nek (by decide), a3 q q1 q2 q3, wr_nek (by decide), wr_nek (by decide)]
  obtain ⟨σ3, b1, b2, b3, b4⟩ := release_c (L := L) (xs := xs) (σ := σ2) hpg hp1 (by rw [k2 4 (by decide) (by decide) (by decide)]; exact h4) d
  obtain ⟨σ4, e4⟩ : ∃ σ4, σ4 = wr (wr (wr (wr (wr σ3 103 10 0) 103 20 0) 103 21 0) 103 22 0) 103 23 0 := ⟨_, rfl⟩
  have p3 : rn L xs (d + 2) 227 0 [.ref 103] [] σ2 = some (.inl none, σ4) := by rw [e227_0 (d + 1), bV_ok b1, ← e4]
  obtain ⟨σ5, e5⟩ : ∃ σ5, σ5 = wr σ4 117 6 0 := ⟨_, rfl⟩
  have p4 : rn L xs (d + 3) 251 0 [.ref 117] [] σ = some (.inl none, σ5) := by rw [e251_0 (d + 2), bV_ok p2, bV_ok p3, ← e5]
  have w34 : frW [103] σ3 σ4 := by rw [e4]; exact (frW_wr rfl).trans ((frW_wr rfl).trans ((frW_wr rfl).trans ((frW_wr rfl).trans (frW_wr rfl))))
  have w5 : frW [100, 103, 106, 117] σ σ5 := by rw [e5]; exact w2.trans ((b4.sub rfl).trans ((w34.sub rfl).trans (frW_wr rfl)))
  have k5 : ∀ q, rd σ5 103 q = rd σ4 103 q := fun q => by rw [e5, wr_nek (by decide)]
  have k4 : ∀ q, q ≠ 10 → q ≠ 20 → q ≠ 21 → q ≠ 22 → q ≠ 23 → rd σ4 103 q = rd σ3 103 q := fun q q1 q2 q3 q4 q5 => by rw [e4, wr_nei q5, wr_nei q4, wr_nei q3, wr_nei q2, wr_nei q1]
  have k3 : ∀ q, q ≠ 8 → q ≠ 9 → q ≠ 19 → rd σ3 103 q = rd σ 103 q := fun q q1 q2 q3 => by rw [b3 q q1 q2 q3, k2 q q1 q2 q3]
  have h106 : ∀ q, rd σ5 106 q = rd σ3 106 q := fun q => by rw [e5, wr_nek (by decide), w34.1 106 rfl]
  have k117 : ∀ q, q ≠ 6 → q ≠ 17 → rd σ5 117 q = rd (wr σ 117 5 0) 117 q := fun q q1 q2 => by rw [e5, wr_nei q1, w34.1 117 rfl, b4.1 117 rfl, e2, wr_nei q2, a4.1 117 rfl, wr_nek (by decide)]
  obtain ⟨c1, c2, c3, c4⟩ := b2
  refine ⟨σ5, p4, ⟨⟨?_, lkF.congr _ _ c2 (fun q _ => h106 q), ?_, ?_⟩, ⟨?_, ?_, ?_⟩, ?_, ?_, ?_, ?_, ?_, ?_, ?_, ?_, ?_⟩, w5⟩
  · rw [k5, k4 8 (by decide) (by decide) (by decide) (by decide) (by decide)]; exact c1
  · rw [k5, k4 9 (by decide) (by decide) (by decide) (by decide) (by decide)]; exact c3
  · rw [k5, k4 19 (by decide) (by decide) (by decide) (by decide) (by decide)]; exact c4
  · rw [k5, k4 4 (by decide) (by decide) (by decide) (by decide) (by decide), k3 4 (by decide) (by decide) (by decide)]; exact h4
  · rw [k5, k4 5 (by decide) (by decide) (by decide) (by decide) (by decide), k3 5 (by decide) (by decide) (by decide)]; exact h5
  · rw [k117 7 (by decide) (by decide), wr_nei (by decide)]; exact h7
  · rw [k117 5 (by decide) (by decide), wr_self]
  · rw [e5, wr_self]
  · rw [e5, wr_nei (by decide), w34.1 117 rfl, b4.1 117 rfl, e2, wr_self]
  · rw [e5, wr_nek (by decide), w34.1 100 rfl, b4.1 100 rfl, e2, wr_nek (by decide), a4.1 100 rfl, wr_self]
  · rw [k5, e4, wr_nei (by decide), wr_nei (by decide), wr_nei (by decide), wr_nei (by decide), wr_self]
  · rw [k5, e4, wr_nei (by decide), wr_nei (by decide), wr_nei (by decide), wr_self]
  · rw [k5, e4, wr_nei (by decide), wr_nei (by decide), wr_self]
  · rw [k5, e4, wr_nei (by decide), wr_self]
  · rw [k5, e4, wr_self]
theorem IDL.told (h : IDL pgs wd ev σ) (h0 : rd τ 123 122 = 0) : TLD σ τ := by
  obtain ⟨⟨f1, f2, f3, f4⟩, _, a1, a2, a3, a4, a5, a6, a7, a8, a9⟩ := h
  exact ⟨0, Nat.zero_le _, by rw [f4]; rfl, by rw [a1, h0], fun _ => ⟨rfl, a2, a7, a8, a9, f3, a5, a6, a3, a4⟩, fun e => absurd h0 e⟩
/-- pool, the calls -/
theorem pool_call (hpg : pgs ≤ 400) (hp1 : 1 ≤ pgs) (h4 : rd σ 103 4 = i32 (pgs : Int)) (h5 : rd σ 103 5 = i32 (wd : Int)) (h7 : rd σ 117 7 = i32 (ev : Int)) (x y : Int32) (d : Nat) :
    (¬ ((8 ≤ x.toInt ∧ x.toInt ≤ 400) ∧ 16 ≤ y.toInt ∧ y.toInt ≤ 128) ∧ rn L xs (d + 4) 13 0 [.ref 0, .int x, .int y] [] σ = some (.inl (some (.int 0)), σ) ∧ ∀ τ, rn L xs (d + 4) 392 0 [.ref 123, .int x, .int y] [] τ = some (.inl (some (.int 0)), wr τ 123 0 0)) ∨
    (∃ (p' w' : Nat) (σ' : tvS), (8 ≤ p' ∧ p' ≤ 400) ∧ (16 ≤ w' ∧ w' ≤ 128) ∧ rn L xs (d + 4) 13 0 [.ref 0, .int x, .int y] [] σ = some (.inl (some (.int 1)), σ') ∧ IDL p' w' ev σ' ∧ frW [100, 103, 106, 117] σ σ' ∧ ∀ τ, rn L xs (d + 4) 392 0 [.ref 123, .int x, .int y] [] τ = some (.inl (some (.int 1)), wr (wr (wr (wr τ 123 0 0) 123 119 (i32 (p' : Int))) 123 120 (i32 (w' : Int))) 123 122 0)) := by
  have hr1 : ∀ τ, _ := fun τ => range_m (L := L) (xs := xs) (σ := τ) (lo := 8) (hi := 400) (by omega) (by omega) x (d + 2)
  have hr2 : ∀ τ, _ := fun τ => range_m (L := L) (xs := xs) (σ := τ) (lo := 16) (hi := 128) (by omega) (by omega) y (d + 2)
  by_cases c1 : 8 ≤ x.toInt ∧ x.toInt ≤ 400
  · by_cases c2 : 16 ≤ y.toInt ∧ y.toInt ≤ 128
    · right
      obtain ⟨σ1, a1, a2, a3⟩ := stop_c (L := L) (xs := xs) hpg hp1 h4 h5 h7 d
      obtain ⟨p', hp'⟩ : ∃ p' : Nat, p' = x.toInt.toNat := ⟨_, rfl⟩
      obtain ⟨w', hw'⟩ : ∃ w' : Nat, w' = y.toInt.toNat := ⟨_, rfl⟩
      have ex : x = i32 (p' : Int) := by rw [hp', Int.toNat_of_nonneg (by omega), i32_of]
      have ey : y = i32 (w' : Int) := by rw [hw', Int.toNat_of_nonneg (by omega), i32_of]
      obtain ⟨σ2, e2⟩ : ∃ σ2, σ2 = wr (wr σ1 103 4 x) 103 5 y := ⟨_, rfl⟩
      have w12 : frW [103] σ1 σ2 := by rw [e2]; exact (frW_wr rfl).trans (frW_wr rfl)
      have k2 : ∀ q, q ≠ 4 → q ≠ 5 → rd σ2 103 q = rd σ1 103 q := fun q q1 q2 => by rw [e2, wr_nei q2, wr_nei q1]
      obtain ⟨σ3, b1, b2, b3, b4⟩ := release_c (L := L) (xs := xs) (σ := σ2) (pgs := p') (by omega) (by omega) (by rw [e2, wr_nei (by decide), wr_self, ex]) (d + 1)
      have p3 : rn L xs (d + 3) 228 0 [.ref 103, .int x, .int y] [] σ1 = some (.inl none, σ3) := by rw [e228_0 (d + 2), ← e2, bV_ok b1]
      obtain ⟨_, ⟨i1, i2, i3⟩, i4, i5, i6, i7, i8, i9, i10, i11, i12⟩ := a2
      have k3 : ∀ q, q ≠ 8 → q ≠ 9 → q ≠ 19 → q ≠ 4 → q ≠ 5 → rd σ3 103 q = rd σ1 103 q := fun q q1 q2 q3 q4 q5 => by rw [b3 q q1 q2 q3, k2 q q4 q5]
      have k7 : ∀ q, rd σ3 117 q = rd σ1 117 q := fun q => by rw [b4.1 117 rfl, w12.1 117 rfl]
      refine ⟨p', w', σ3, by omega, by omega, ?_, ⟨b2, ⟨by rw [b3 4 (by decide) (by decide) (by decide), e2, wr_nei (by decide), wr_self, ex], by rw [b3 5 (by decide) (by decide) (by decide), e2, wr_self, ey], by rw [k7]; exact i3⟩, by rw [k7]; exact i4, by rw [k7]; exact i5, by rw [k7]; exact i6, by rw [b4.1 100 rfl, w12.1 100 rfl]; exact i7, ?_, ?_, ?_, ?_, ?_⟩, a3.trans ((w12.sub rfl).trans (b4.sub rfl)), fun τ => ?_⟩
      · rw [e13_0, show (8 : Int32) = i32 8 from rfl, c2_ltx, i32_ti (by omega) (by omega), c_f (by omega), show (400 : Int32) = i32 400 from rfl, c2_gtx, i32_ti (by omega) (by omega), c_f (by omega), show (16 : Int32) = i32 16 from rfl, c2_ltx, i32_ti (by omega) (by omega), c_f (by omega), show (128 : Int32) = i32 128 from rfl, c2_lex, i32_ti (by omega) (by omega), c_t (by omega), e13_28 (d + 3), bV_ok a1, bV_ok p3]
      · rw [k3 10 (by decide) (by decide) (by decide) (by decide) (by decide)]; exact i8
      · rw [k3 20 (by decide) (by decide) (by decide) (by decide) (by decide)]; exact i9
      · rw [k3 21 (by decide) (by decide) (by decide) (by decide) (by decide)]; exact i10
      · rw [k3 22 (by decide) (by decide) (by decide) (by decide) (by decide)]; exact i11
      · rw [k3 23 (by decide) (by decide) (by decide) (by decide) (by decide)]; exact i12
      · have q1 : rn L xs (d + 3) 287 0 [.int x, .int 8, .int 400] [] (wr τ 123 0 0) = some (.inl (some (.int 1)), wr τ 123 0 0) := (hr1 _).1 c1
        have q2 : rn L xs (d + 3) 287 0 [.int y, .int 16, .int 128] [] (wr τ 123 0 0) = some (.inl (some (.int 1)), wr τ 123 0 0) := (hr2 _).1 c2
        rw [e392_0 (d + 3), bI_ok q1, show pv_c1 .eq (1 : Int32) = false from rfl, cond_false, bI_ok q2, show pv_c1 .ne (1 : Int32) = true from rfl, cond_true, e392_31, ← ex, ← ey]
    · left
      refine ⟨fun h => c2 h.2, ?_, fun τ => ?_⟩
      · rw [e13_0, show (8 : Int32) = i32 8 from rfl, c2_ltx, i32_ti (by omega) (by omega), c_f (by omega), show (400 : Int32) = i32 400 from rfl, c2_gtx, i32_ti (by omega) (by omega), c_f (by omega), show (16 : Int32) = i32 16 from rfl, c2_ltx, i32_ti (by omega) (by omega)]
        by_cases c3 : y.toInt < 16
        · rw [c_t c3, e13_26]
        · rw [c_f c3, show (128 : Int32) = i32 128 from rfl, c2_lex, i32_ti (by omega) (by omega), c_f (by omega), e13_26]
      · have q1 : rn L xs (d + 3) 287 0 [.int x, .int 8, .int 400] [] (wr τ 123 0 0) = some (.inl (some (.int 1)), wr τ 123 0 0) := (hr1 _).1 c1
        have q2 : rn L xs (d + 3) 287 0 [.int y, .int 16, .int 128] [] (wr τ 123 0 0) = some (.inl (some (.int 0)), wr τ 123 0 0) := (hr2 _).2 c2
        rw [e392_0 (d + 3), bI_ok q1, show pv_c1 .eq (1 : Int32) = false from rfl, cond_false, bI_ok q2, show pv_c1 .ne (0 : Int32) = false from rfl, cond_false, e392_29]
  · left
    refine ⟨fun h => c1 h.1, ?_, fun τ => ?_⟩
    · rw [e13_0, show (8 : Int32) = i32 8 from rfl, c2_ltx, i32_ti (by omega) (by omega)]
      by_cases c3 : x.toInt < 8
      · rw [c_t c3, e13_26]
      · rw [c_f c3, show (400 : Int32) = i32 400 from rfl, c2_gtx, i32_ti (by omega) (by omega), c_t (by omega), e13_26]
    · have q1 : rn L xs (d + 3) 287 0 [.int x, .int 8, .int 400] [] (wr τ 123 0 0) = some (.inl (some (.int 0)), wr τ 123 0 0) := (hr1 _).2 c1
      rw [e392_0 (d + 3), bI_ok q1, show pv_c1 .eq (0 : Int32) = true from rfl, cond_true, e392_29]
end CALLS2
