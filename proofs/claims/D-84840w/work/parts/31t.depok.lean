/-! READING: the depth check, both -/
section DEPOK
variable {L : Nat} {xs : Nat → Int32} {K1 K2 m : Nat} {μ : Nat → Nat} {g fc : Nat} {σ τ : tvS} {bk bP tV bF bS : Nat → Nat}
/-- how deep parts lie: below 100 -/
def DPC (fc : Nat) (bP : Nat → Nat) (σ : tvS) : Prop := ∃ dp : Nat → Nat, ∀ p, p < bP (fc + 1) → dp p < 100 ∧ (rd σ 24 p = i32 (-1) ∨ ∃ q : Nat, p < q ∧ q < bP (fc + 1) ∧ rd σ 24 p = i32 q ∧ dp p = dp q + 1)
theorem dep_ok (h : PRG0 K1 K2 m μ fc bk bP tV bF bS σ τ) : ∃ (σ'' τ'' : tvS), (∀ j i, j ≠ 64 → rd σ'' j i = rd σ j i) ∧ σ''.2 = σ.2 ∧ (∀ j i, j ≠ 165 → rd τ'' j i = rd τ j i) ∧ τ''.2 = τ.2 ∧
    (DPC fc bP σ ∧ (∀ d, rn L xs (d + 4) 108 153 [.ref 62] [] σ = some (.inl none, σ'')) ∧ (∀ dm, rn L xs (dm + 3) 330 0 [.ref 123, jv, jv, jv] [] τ = some (.inl none, τ'')) ∨
      ∀ d dm, FLB K1 K2 (rn L xs (d + 4) 108 153 [.ref 62] [] σ) (rn L xs (dm + 3) 330 0 [.ref 123, jv, jv, jv] [] τ)) := by
  obtain ⟨c1, c2, c3, c4, ⟨c5, c5'⟩, c6⟩ := h.1.lv
  obtain ⟨σ'', τ'', x, r1, r2, r3, r4, r5, r6, r7, r8, r9⟩ := dep_loop (L := L) (xs := xs) h (bP (fc + 1)) σ τ (i32 (-1)) (Nat.le_refl _) (fun _ _ _ => rfl) rfl (fun _ _ _ => rfl) rfl (fun q q1 q2 => by omega)
  have hs : i32 (bP (fc + 1) : Int) - 1 = i32 ((bP (fc + 1) : Int) - 1) := i32_sub _ 1
  have hC : ∀ d, ∃ v2 v3, rn L xs (d + 3) 139 0 [.ref 62, jv, jv, jv] [] σ = rn L xs (d + 3) 139 101 [.ref 62, .int x, v2, v3] [] σ'' := fun d => by
    obtain ⟨v2, v3, e⟩ := r5 d jv
    exact ⟨v2, v3, by rw [e139_0 (d + 2), c5, hs]; exact e⟩
  have hM : ∀ d, ∃ v2 v3, rn L xs (d + 3) 330 0 [.ref 123, jv, jv, jv] [] τ = rn L xs (d + 3) 330 91 [.ref 123, .int x, v2, v3] [] τ'' := fun d => by
    obtain ⟨v2, v3, e⟩ := r6 d jv
    exact ⟨v2, v3, by rw [e330_0 (d + 2), c5', hs]; exact e⟩
  refine ⟨σ'', τ'', r1, r2, r3, r4, ?_⟩
  have h5 : rd τ'' 123 5 = 0 := (r3 123 5 (by omega)).trans c3
  have hroom : roomC K1 K2 σ'' := by
    unfold roomC ln rm at c4 ⊢
    rw [r2]; exact c4
  by_cases q : pv_c2 .eq x (i32 (-1)) = true
  · left
    have ex : x = i32 (-1) := of_decide_eq_true q
    obtain ⟨_, hlt⟩ := r9 ex
    have key : ∀ j p, p + j + 1 = bP (fc + 1) → ∃ n : Nat, n < 100 ∧ rd σ'' 64 p = i32 (n : Int) := by
      intro j
      induction j using Nat.strongRecOn with
      | ind j ih =>
        intro p e
        have hl := hlt p (by omega)
        rcases r8 p (by omega) with ⟨_, z⟩ | ⟨t, t1, t2, _, t4⟩
        · exact ⟨0, by omega, z⟩
        · obtain ⟨n, n1, n2⟩ := ih (bP (fc + 1) - 1 - t) (by omega) t (by omega)
          have e1 : rd σ'' 64 p = i32 ((n + 1 : Nat) : Int) := by rw [t4, n2, show (1 : Int32) = i32 1 from rfl, i32_add]; rfl
          rw [e1, show (100 : Int32) = i32 100 from rfl, c2_lt (by omega) (by omega) (by omega) (by omega)] at hl
          have := of_decide_eq_true hl
          exact ⟨n + 1, by omega, e1⟩
    refine ⟨⟨fun p => ix (rd σ'' 64 p), fun p hp => ?_⟩, fun d => ?_, fun dm => ?_⟩
    · obtain ⟨n, n1, n2⟩ := key (bP (fc + 1) - 1 - p) p (by omega)
      show ix (rd σ'' 64 p) < 100 ∧ _
      rw [n2, i32_ixn (by omega)]
      refine ⟨n1, ?_⟩
      rcases r8 p hp with ⟨z, _⟩ | ⟨t, t1, t2, t3, t4⟩
      · exact .inl z
      · obtain ⟨k, k1, k2⟩ := key (bP (fc + 1) - 1 - t) t (by omega)
        refine .inr ⟨t, t1, t2, t3, ?_⟩
        show ix (rd σ'' 64 p) = ix (rd σ'' 64 t) + 1
        rw [n2, k2, i32_ixn (by omega), i32_ixn (by omega)]
        rw [n2, k2, show (1 : Int32) = i32 1 from rfl, i32_add] at t4
        have := (i32_inj (by omega) (by omega) (by omega) (by omega)).mp t4
        omega
    · obtain ⟨v2, v3, e⟩ := hC d
      rw [e108_153 (d + 3), bV_ok (show rn L xs (d + 3) 139 0 [.ref 62, jv, jv, jv] [] σ = some (.inl none, σ'') from by rw [e, e139_101 (d + 2), show (Int32.ofInt (-1)) = i32 (-1) from rfl, q, cond_true, e139_116 (d + 2)])]
    · obtain ⟨v2, v3, e⟩ := hM dm
      rw [e, e330_91 (dm + 2), show (Int32.ofInt (-1)) = i32 (-1) from rfl, q, cond_true, e330_103 (dm + 2)]
  · right
    have q : pv_c2 .eq x (i32 (-1)) = false := by simpa using q
    intro d dm
    obtain ⟨v2, v3, e⟩ := hC d
    obtain ⟨w2, w3, e'⟩ := hM dm
    have e45 : rn L xs (d + 2) 45 0 [.ref 5, .int 6, .int x] [] σ'' = some (.inr (1016, (rm σ'').1), cFlt σ'' 6 x) := by
      rw [e45_0, show xnOK (wr (wr σ'' 5 0 6) 5 1 x) = true from hroom.xn, cond_true]; rfl
    have e291 : rn L xs (dm + 2) 291 0 [.ref 123, .int 6, .int x] [] τ'' = some (.inl none, mFlt τ'' 6 x) := mfail_ok h5 (dm + 1) 6 x
    have e139 : rn L xs (d + 3) 139 0 [.ref 62, jv, jv, jv] [] σ = some (.inr (1016, (rm σ'').1), cFlt σ'' 6 x) := by
      rw [e, e139_101 (d + 2), show (Int32.ofInt (-1)) = i32 (-1) from rfl, q, cond_false, bV_ex e45]; rfl
    refine ⟨σ'', mFlt τ'' 6 x, 6, x, by rw [e108_153 (d + 3), bV_ex e139]; rfl, hroom, ?_, (wr_nei (by omega)).trans (wr_self _ _ _ _), wr_self _ _ _ _, by decide⟩
    rw [e', e330_91 (dm + 2), show (Int32.ofInt (-1)) = i32 (-1) from rfl, q, cond_false, bV_ok e291, e330_103 (dm + 2)]
end DEPOK
