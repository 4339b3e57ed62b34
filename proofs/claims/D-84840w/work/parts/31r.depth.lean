/-! READING: how deep parts lie -/
section DEPTH
variable {L : Nat} {xs : Nat → Int32} {K1 K2 m : Nat} {μ : Nat → Nat} {g fc : Nat} {P S : Nat} {σ τ : tvS} {bk bP tV bF bS : Nat → Nat}
def nwx (x1 y p : Int32) : Int32 := cond (pv_c2 .lt y 100) x1 (cond (pv_c2 .eq x1 (i32 (-1))) p (cond (pv_c2 .ge p x1) x1 p))
theorem dep_c {k a : Nat} {x1 y : Int32} (hk : k < 4101) (ha : a < 3001) (h17 : rd σ 17 k = i32 a) (hy : rd σ 24 k = i32 (-1) ∧ y = 0 ∨ ∃ q : Nat, q < 4101 ∧ rd σ 24 k = i32 q ∧ y = rd σ 64 q + 1) (d : Nat) (v3 : Value) :
    ∃ v', rn L xs (d + 3) 139 12 [.ref 62, .int x1, .int (i32 k), v3] [] σ = rn L xs (d + 3) 139 12 [.ref 62, .int (nwx x1 y (rd σ 13 a)), .int (i32 k + i32 (-1)), v'] [] (wr σ 64 k y) := by
  have h54 : rn L xs (d + 3) 139 12 [.ref 62, .int x1, .int (i32 k), v3] [] σ = rn L xs (d + 3) 139 54 [.ref 62, .int x1, .int (i32 k), v3] [.int y, .int (i32 k), .ref 64] σ := by
    rw [e139_12 (d + 2), c1_lt (by omega) (by omega), c_f (by omega), c_in (by omega) (by omega) (by omega), i32_ixn (by omega)]
    rcases hy with ⟨e1, e2⟩ | ⟨q, q1, e1, e2⟩
    · rw [e1, e2]
      show cond (pv_c2 .ne (i32 (-1)) (i32 (-1))) _ _ = _
      rw [c2_ne (a := -1) (b := -1) (by omega) (by omega) (by omega) (by omega), c_f (by omega)]
    · rw [e1]
      show cond (pv_c2 .ne (i32 (q : Int)) (i32 (-1))) _ _ = _
      rw [c2_ne (by omega) (by omega) (by omega) (by omega), c_t (by omega), e139_38 (d + 2), c_in (by omega) (by omega) (by omega), i32_ixn (by omega), e1, c_in (by omega) (by omega) (by omega), i32_ixn (by omega), e2]
  have h58 : rn L xs (d + 2) 58 0 [.ref 6, .int (i32 a)] [] (wr σ 64 k y) = some (.inl (some (.int (rd σ 13 a))), wr σ 64 k y) := by
    rw [e58_0, c_in (by omega) (by omega) (by omega), i32_ixn (by omega)]; rfl
  rw [h54]
  unfold nwx
  have he : ∃ v', rn L xs (d + 3) 139 54 [.ref 62, .int x1, .int (i32 k), v3] [.int y, .int (i32 k), .ref 64] σ = rn L xs (d + 3) 139 95 [.ref 62, .int (cond (pv_c2 .lt y 100) x1 (cond (pv_c2 .eq x1 (i32 (-1))) (rd σ 13 a) (cond (pv_c2 .ge (rd σ 13 a) x1) x1 (rd σ 13 a)))), .int (i32 k), v'] [] (wr σ 64 k y) := by
    refine ⟨.int (rd σ 13 a), ?_⟩
    rw [e139_54 (d + 2), c_in (by omega) (by omega) (by omega), c_in (by omega) (by omega) (by omega), i32_ixn (by omega), h17, bI_ok h58, c_in (by omega) (by omega) (by omega), wr_self, show (Int32.ofInt (-1)) = i32 (-1) from rfl]
    cases pv_c2 .lt y 100 <;> cases pv_c2 .eq x1 (i32 (-1)) <;> cases pv_c2 .ge (rd σ 13 a) x1 <;> simp only [cond_true, cond_false, e139_93]
  obtain ⟨v', he⟩ := he
  exact ⟨v', by rw [he, e139_95 (d + 2)]; rfl⟩
theorem dep_m {k a : Nat} {x1 y : Int32} (hk : k < 4101) (ha : a < 3001) (h17 : rd τ 152 k = i32 a) (hy : rd τ 159 k = i32 (-1) ∧ y = 0 ∨ ∃ q : Nat, q < 4101 ∧ rd τ 159 k = i32 q ∧ y = rd τ 165 q + 1) (d : Nat) (v3 : Value) :
    ∃ v', rn L xs (d + 3) 330 9 [.ref 123, .int x1, .int (i32 k), v3] [] τ = rn L xs (d + 3) 330 9 [.ref 123, .int (nwx x1 y (rd τ 127 a)), .int (i32 k + i32 (-1)), v'] [] (wr τ 165 k y) := by
  have h54 : rn L xs (d + 3) 330 9 [.ref 123, .int x1, .int (i32 k), v3] [] τ = rn L xs (d + 3) 330 45 [.ref 123, .int x1, .int (i32 k), v3] [.int y, .int (i32 k), .ref 165] τ := by
    rw [e330_9 (d + 2), c1_lt (by omega) (by omega), c_f (by omega), c_in (by omega) (by omega) (by omega), i32_ixn (by omega)]
    rcases hy with ⟨e1, e2⟩ | ⟨q, q1, e1, e2⟩
    · rw [e1, e2]
      show cond (pv_c2 .ne (i32 (-1)) (i32 (-1))) _ _ = _
      rw [c2_ne (a := -1) (b := -1) (by omega) (by omega) (by omega) (by omega), c_f (by omega)]
    · rw [e1]
      show cond (pv_c2 .ne (i32 (q : Int)) (i32 (-1))) _ _ = _
      rw [c2_ne (by omega) (by omega) (by omega) (by omega), c_t (by omega), e330_32 (d + 2), c_in (by omega) (by omega) (by omega), i32_ixn (by omega), e1, c_in (by omega) (by omega) (by omega), i32_ixn (by omega), e2]
  rw [h54]
  unfold nwx
  have he : ∃ v', rn L xs (d + 3) 330 45 [.ref 123, .int x1, .int (i32 k), v3] [.int y, .int (i32 k), .ref 165] τ = rn L xs (d + 3) 330 85 [.ref 123, .int (cond (pv_c2 .lt y 100) x1 (cond (pv_c2 .eq x1 (i32 (-1))) (rd τ 127 a) (cond (pv_c2 .ge (rd τ 127 a) x1) x1 (rd τ 127 a)))), .int (i32 k), v'] [] (wr τ 165 k y) := by
    rw [e330_45 (d + 2), c_in (by omega) (by omega) (by omega), c_in (by omega) (by omega) (by omega), i32_ixn (by omega), wr_self, h17, c_in (by omega) (by omega) (by omega), c_in (by omega) (by omega) (by omega), i32_ixn (by omega), show (Int32.ofInt (-1)) = i32 (-1) from rfl]
    cases pv_c2 .lt y 100
    · refine ⟨.int (rd τ 127 a), ?_⟩
      cases pv_c2 .eq x1 (i32 (-1)) <;> cases pv_c2 .ge (rd τ 127 a) x1 <;> simp only [cond_true, cond_false, e330_79, e330_83, e330_84]
    · exact ⟨v3, by simp only [cond_true]⟩
  obtain ⟨v', he⟩ := he
  exact ⟨v', by rw [he, e330_85 (d + 2)]; rfl⟩
end DEPTH
