/-! BOTH: the tape is made of what was put out -/
section AGAIN
variable {L : Nat} {xs : Nat → Int32} {σ τ : tvS} {t : Nat}
theorem again_c (h3 : rd σ 3 1 = i32 (t : Int)) (ht : t ≤ 3000) (hl : ∀ i, i < t → 1 ≤ (rd σ 4 i).toInt ∧ (rd σ 4 i).toInt ≤ 127) (d : Nat) : ∀ (j k : Nat) (σ1 : tvS), k + j = t → frW [1, 2] σ σ1 → rd σ1 1 1 = i32 (k : Int) → (∀ i, i < k → rd σ1 2 i = rd σ 4 i) →
    ∃ σ', rn L xs (d + 3) 12 24 [.ref 0, .int (i32 (k : Int))] [] σ1 = some (.inl (some (.int (i32 (t : Int)))), σ') ∧ frW [1, 2] σ σ' ∧ rd σ' 1 1 = i32 (t : Int) ∧ ∀ i, i < t → rd σ' 2 i = rd σ 4 i := by
  intro j
  induction j with
  | zero =>
    intro k σ1 hk w h1 h2
    obtain rfl : k = t := by omega
    have p : rn L xs (d + 2) 36 0 [.ref 3] [] σ1 = some (.inl (some (.int (i32 (k : Int)))), σ1) := by rw [e36b_0, w.1 3 rfl, h3]
    have p2 : rn L xs (d + 2) 36 0 [.ref 1] [] σ1 = some (.inl (some (.int (i32 (k : Int)))), σ1) := by rw [e36_0, h1]
    refine ⟨σ1, ?_, w, h1, h2⟩
    rw [e12_24 (d + 2), bI_ok p, c2_ge (by omega) (by omega) (by omega) (by omega), c_t (by omega), e12_56 (d + 2), bI_ok p2]
  | succ j ih =>
    intro k σ1 hk w h1 h2
    have p : rn L xs (d + 2) 36 0 [.ref 3] [] σ1 = some (.inl (some (.int (i32 (t : Int)))), σ1) := by rw [e36b_0, w.1 3 rfl, h3]
    have p2 : rn L xs (d + 2) 37 0 [.ref 3, .int (i32 (k : Int))] [] σ1 = some (.inl (some (.int (rd σ 4 k))), σ1) := by rw [e37_0, c_in (by omega) (by omega) (by omega), i32_ixn (by omega), w.1 4 rfl]
    have p3 : rn L xs (d + 1) 35 0 [.ref 1] [] σ1 = some (.inl (some (.int 0)), σ1) := by
      rw [e35_0, h1, show (3000 : Int32) = i32 3000 from rfl, c2_ne (by omega) (by omega) (by omega) (by omega), c_t (by omega), e35_16, e35_17]; rfl
    have e1 : i32 (k : Int) + 1 = i32 ((k + 1 : Nat) : Int) := by rw [show (1 : Int32) = i32 1 from rfl, i32_add]; congr 1
    have hb := hl k (by omega)
    obtain ⟨σ2, e2⟩ : ∃ σ2, σ2 = wr (wr σ1 2 k (rd σ 4 k)) 1 1 (i32 ((k + 1 : Nat) : Int)) := ⟨_, rfl⟩
    have p4 : rn L xs (d + 2) 34 0 [.ref 1, .int (rd σ 4 k)] [] σ1 = some (.inl none, σ2) := by
      rw [e34_0 (d + 1), bI_ok p3, show pv_c1 .eq (0 : Int32) = true from rfl, cond_true, e34_8, h1, c_in (by omega) (by omega) (by omega), i32_ixn (by omega), nar_by8, by8_id (by omega) (by omega), e1, ← e2]
    obtain ⟨σ', z1, z2, z3, z4⟩ := ih (k + 1) σ2 (by omega) (by rw [e2]; exact w.trans ((frW_wr rfl).trans (frW_wr rfl))) (by rw [e2, wr_self]) (fun i hi => by
      rw [e2, wr_nek (by decide)]
      by_cases c : i = k
      · subst c; rw [wr_self]
      · rw [wr_nei c]; exact h2 i (by omega))
    refine ⟨σ', ?_, z2, z3, z4⟩
    rw [e12_24 (d + 2), bI_ok p, c2_ge (by omega) (by omega) (by omega) (by omega), c_f (by omega), bI_ok p2, bV_ok p4, e1]
    exact z1
theorem again_m (h3 : rd τ 123 3 = i32 (t : Int)) (ht : t ≤ 3000) (v1 : Value) (d : Nat) : ∀ (j k : Nat) (τ1 : tvS), k + j = t → frM [124] [] τ τ1 → (∀ i, i < k → rd τ1 124 i = rd τ 125 i) →
    ∃ τ', rn L xs (d + 1) 389 19 [.ref 123, .int (i32 (k : Int))] [] τ1 = some (.inl (some (.int (i32 (t : Int)))), τ') ∧ frM [124] [1] τ τ' ∧ rd τ' 123 1 = i32 (t : Int) ∧ ∀ i, i < t → rd τ' 124 i = rd τ 125 i := by
  intro j
  induction j with
  | zero =>
    intro k τ1 hk w h2
    obtain rfl : k = t := by omega
    have e3 : rd τ1 123 3 = i32 (k : Int) := by rw [w.2 3 rfl, h3]
    refine ⟨wr τ1 123 1 (i32 (k : Int)), ?_, (w.sub rfl rfl).trans (frM_w rfl), wr_self _ _ _ _, fun i hi => by rw [wr_nek (by decide)]; exact h2 i hi⟩
    rw [e389_19, e3, c2_ge (by omega) (by omega) (by omega) (by omega), c_t (by omega), e389_45, e3]
  | succ j ih =>
    intro k τ1 hk w h2
    have e3 : rd τ1 123 3 = i32 (t : Int) := by rw [w.2 3 rfl, h3]
    have e1 : i32 (k : Int) + 1 = i32 ((k + 1 : Nat) : Int) := by rw [show (1 : Int32) = i32 1 from rfl, i32_add]; congr 1
    obtain ⟨τ', z1, z2, z3, z4⟩ := ih (k + 1) (wr τ1 124 k (rd τ1 125 k)) (by omega) (w.trans (frM_wr rfl (by decide))) (fun i hi => by
      by_cases c : i = k
      · subst c; rw [wr_self, w.rd (j := 125) rfl]
      · rw [wr_nei c]; exact h2 i (by omega))
    refine ⟨τ', ?_, z2, z3, z4⟩
    rw [e389_19, e3, c2_ge (by omega) (by omega) (by omega) (by omega), c_f (by omega), c_in (by omega) (by omega) (by omega), c_in (by omega) (by omega) (by omega), i32_ixn (by omega), e1]
    exact z1
/-- again -/
theorem again_op (h : RO t σ τ) (v1 w1 : Value) (d : Nat) : (3000 < t ∧ rn L xs (d + 4) 12 0 [.ref 0, v1] [] σ = some (.inl (some (.int (i32 (-1)))), σ) ∧ rn L xs (d + 4) 389 0 [.ref 123, w1] [] τ = some (.inl (some (.int (i32 (-1)))), wr τ 123 0 0)) ∨
    (t ≤ 3000 ∧ ∃ σ' τ', rn L xs (d + 4) 12 0 [.ref 0, v1] [] σ = some (.inl (some (.int (i32 (t : Int)))), σ') ∧ rn L xs (d + 4) 389 0 [.ref 123, w1] [] τ = some (.inl (some (.int (i32 (t : Int)))), τ') ∧ RT t σ' τ' ∧ frW [1, 2] σ σ' ∧ frM [124] [0, 1] τ τ' ∧ rd τ' 123 0 = 0) := by
  obtain ⟨h1, h2, h3, h4⟩ := h
  have p : rn L xs (d + 3) 36 0 [.ref 3] [] σ = some (.inl (some (.int (i32 (t : Int)))), σ) := by rw [e36b_0, h2]
  by_cases c : t ≤ 3000
  · right
    have p2 : rn L xs (d + 3) 38 0 [.ref 1] [] σ = some (.inl none, wr σ 1 1 0) := by rw [e38_0]
    have hl : ∀ i, i < t → 1 ≤ (rd σ 4 i).toInt ∧ (rd σ 4 i).toInt ≤ 127 := fun i hi => by rw [(h4 i hi).1]; exact (h4 i hi).2
    obtain ⟨σ', a1, a2, a3, a4⟩ := again_c (L := L) (xs := xs) h2 c hl (d + 1) t 0 (wr σ 1 1 0) (by omega) (frW_wr rfl) (by rw [wr_self]; rfl) (fun i hi => by omega)
    obtain ⟨τ', b1, b2, b3, b4⟩ := again_m (L := L) (xs := xs) (τ := wr τ 123 0 0) (t := t) (by rw [wr_nei (by decide)]; exact h3) c w1 (d + 3) t 0 (wr τ 123 0 0) (by omega) frM.refl (fun i hi => by omega)
    refine ⟨c, σ', τ', ?_, ?_, ⟨c, a3, b3, fun i hi => ?_⟩, a2, (frM_w rfl).trans (b2.sub rfl rfl), by rw [b2.2 0 rfl, wr_self]⟩
    · rw [e12_0 (d + 3), bI_ok p, show (3000 : Int32) = i32 3000 from rfl, c2_le (by omega) (by omega) (by omega) (by omega), c_t (by omega), e12_15 (d + 3), bV_ok p2]
      exact a1
    · rw [e389_0, h3, show (3000 : Int32) = i32 3000 from rfl, c2_le (by omega) (by omega) (by omega) (by omega), c_t (by omega), e389_17]
      exact b1
    · have hb := h4 i hi
      have e : rd τ' 124 i = rd τ 125 i := by rw [b4 i hi, wr_nek (by decide)]
      rw [a4 i hi, e, hb.1]
      exact ⟨(by8_id (by omega) (by omega)).symm, by omega, by omega⟩
  · left
    refine ⟨by omega, ?_, ?_⟩
    · rw [e12_0 (d + 3), bI_ok p, show (3000 : Int32) = i32 3000 from rfl, c2_le (by omega) (by omega) (by omega) (by omega), c_f (by omega), i32_raw]
    · rw [e389_0, h3, show (3000 : Int32) = i32 3000 from rfl, c2_le (by omega) (by omega) (by omega) (by omega), c_f (by omega), i32_raw]
end AGAIN
