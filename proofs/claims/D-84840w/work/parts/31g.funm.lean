/-! READING: the head of a function, the model -/
section FUNHEADM
variable {L : Nat} {xs : Nat → Int32} {K1 K2 m : Nat} {μ : Nat → Nat} {g fc : Nat} {sc : List Nat} {fs fs' : List (Nat × Nat × List Nat)} {F D H n A P r r0 V S : Nat} {σ τ σ' τ' σ1 τ1 σ'' τ'' : tvS}
def mH1 (τ : tvS) (A fc : Nat) : tvS := wr (wr (wr (wr τ 123 17 (i32 (A + 1 : Nat))) 123 40 0) 123 43 0) 123 28 (i32 fc)
def mH0 (τ : tvS) (A fc P V S : Nat) : tvS := wr (wr (wr (wr (wr (wr (wr (wr (wr (mH1 τ A fc) 138 fc (rd τ 129 (A + 1))) 139 fc (i32 (A + 1 : Nat))) 140 fc 0) 143 fc (i32 P)) 144 fc (i32 V)) 141 fc (i32 V)) 202 fc (i32 (S + 1 : Nat))) 123 27 (i32 (fc + 1 : Nat))) 123 17 (i32 (A + 1 + 1 : Nat))
def mHd (τ : tvS) (A fc P V S : Nat) : tvS := wr (mH0 τ A fc P V S) 123 17 (i32 (A + 1 + 1 + 1 : Nat))
theorem head_m (hLV : LV m σ τ) (hμ : mu τ = μ) (hA : A + 1 ≤ m) (h5 : rd τ 123 5 = 0) (hF : FUNS m fc σ τ) (hc : rd τ 123 27 = i32 fc) (hP : rd τ 123 46 = i32 P) (hV : rd τ 123 36 = i32 V) (hS : rd τ 123 42 = i32 S) (d : Nat) :
    (hvk σ (μ (A + 1)) (A + 1) fc ≠ 0 → rn L xs (d + 4) 300 0 [.ref 123, jv, jv, jv] [] (wr τ 123 17 (i32 (A + 1 : Nat))) = some (.inl none, mFlt (mH1 τ A fc) (i32 (hvk σ (μ (A + 1)) (A + 1) fc)) (rd τ 127 (A + 1)))) ∧
    (hvk σ (μ (A + 1)) (A + 1) fc = 0 → μ (A + 1 + 1) ≠ 24 → rn L xs (d + 4) 300 0 [.ref 123, jv, jv, jv] [] (wr τ 123 17 (i32 (A + 1 : Nat))) = some (.inl none, mFlt (mH0 τ A fc P V S) 2 (rd τ 127 (A + 1 + 1)))) ∧
    (hvk σ (μ (A + 1)) (A + 1) fc = 0 → μ (A + 1 + 1) = 24 → ∃ v, rn L xs (d + 4) 300 0 [.ref 123, jv, jv, jv] [] (wr τ 123 17 (i32 (A + 1 : Nat))) = rn L xs (d + 4) 300 195 [.ref 123, .int (i32 fc), .int 1, v] [] (mHd τ A fc P V S)) := by
  have hm := hLV.1
  have hf20 := hF.1
  have hL1 : LV m σ (mH1 τ A fc) := hLV
  have hF1 : FUNS m fc σ (mH1 τ A fc) := hF
  have h17 : rd (mH1 τ A fc) 123 17 = i32 (A + 1 : Nat) := by unfold mH1; rw [wr_nei (by omega), wr_nei (by omega), wr_nei (by omega), wr_self]
  have hoth : ∀ i, i ≠ 17 → i ≠ 40 → i ≠ 43 → i ≠ 28 → rd (mH1 τ A fc) 123 i = rd τ 123 i := fun i a b c e => by unfold mH1; rw [rdne (by omega), rdne (by omega), rdne (by omega), rdne (by omega)]
  have hfl : ∀ (k p : Int32), rn L xs (d + 3) 291 0 [.ref 123, .int k, .int p] [] (mH1 τ A fc) = some (.inl none, mFlt (mH1 τ A fc) k p) := fun k p => mfail_ok ((hoth 5 (by omega) (by omega) (by omega) (by omega)).trans h5) (d + 2) k p
  have hk := mkind_ok (L := L) (xs := xs) hL1 hA h17 (d + 2)
  rw [show mu (mH1 τ A fc) = μ from hμ] at hk
  have hμ36 := (hLV.2.1 (A + 1) hA).2.2
  rw [hμ] at hμ36
  have h0 : ∃ w2 w3, rn L xs (d + 4) 300 0 [.ref 123, jv, jv, jv] [] (wr τ 123 17 (i32 (A + 1 : Nat))) = if μ (A + 1) = 1 then rn L xs (d + 4) 300 37 [.ref 123, .int (i32 fc), w2, w3] [] (mH1 τ A fc) else some (.inl none, mFlt (mH1 τ A fc) 2 (rd τ 127 (A + 1))) := by
    refine ⟨dj (dj jv), dj (dj jv), ?_⟩
    have e27 : rd (wr τ 123 17 (i32 (A + 1 : Nat))) 123 27 = i32 fc := (wr_nei (by omega)).trans hc
    rw [e300_0 (d + 3), bV_ok (show rn L xs (d + 3) 301 0 [.ref 123] [] (wr τ 123 17 (i32 (A + 1 : Nat))) = _ from e301_0 (d + 2) _), e27]
    rw [show wr (wr (wr (wr τ 123 17 (i32 (A + 1 : Nat))) 123 40 0) 123 43 0) 123 28 (i32 fc) = mH1 τ A fc from rfl, bI_ok hk, show (1 : Int32) = i32 ((1 : Nat) : Int) from rfl, mcond (y := 1) rfl (by omega) (by omega)]
    by_cases q : μ (A + 1) = 1
    · rw [if_pos q, if_pos q]
    · rw [if_neg q, if_neg q, h17, c_in (by omega) (by omega) (by omega), i32_ixn (by omega), bV_ok (hfl 2 _)]; rfl
  have h37 : μ (A + 1) = 1 → ∀ w2 w3, ∃ u2 u3, rn L xs (d + 4) 300 37 [.ref 123, .int (i32 fc), w2, w3] [] (mH1 τ A fc) = if fIx (fun f => decide (rl σ 42 f = rl σ 12 (A + 1))) fc 0 ≠ none then some (.inl none, mFlt (mH1 τ A fc) 3 (rd τ 127 (A + 1))) else rn L xs (d + 4) 300 69 [.ref 123, .int (i32 fc), u2, u3] [] (mH1 τ A fc) := fun q1 w2 w3 => by
    refine ⟨dj w2, dj w3, ?_⟩
    have hlt : A + 1 < m := by
      apply Classical.byContradiction
      intro q
      have h36 := hLV.2.2.1
      rw [hμ, show m = A + 1 by omega] at h36
      omega
    have hnm : nmR m σ (mH1 τ A fc) (rl σ 12 (A + 1)) (rd (mH1 τ A fc) 129 (A + 1)) := ⟨A + 1, hlt, by rw [show mu (mH1 τ A fc) = μ from hμ]; exact q1, rfl, rfl⟩
    have hmf := mfun_ok (L := L) (xs := xs) hL1 hF1 ((hoth 27 (by omega) (by omega) (by omega) (by omega)).trans hc) (show rd (mH1 τ A fc) 123 28 = i32 fc from wr_self _ _ _ _) hf20 (d + 2) hnm
    rw [show min (fc + 1) fc = fc by omega] at hmf
    rw [e300_37 (d + 3), h17, c_in (by omega) (by omega) (by omega), i32_ixn (by omega), bI_ok hmf]
    cases hf : fIx (fun f => decide (rl σ 42 f = rl σ 12 (A + 1))) fc 0 with
    | some f =>
      have := fIx_lt _ _ _ hf
      show cond (pv_c2 .eq (i32 (f : Int)) (i32 (-1))) _ _ = _
      rw [c2_eq (by omega) (by omega) (by omega) (by omega), c_f (by omega), h17, c_in (by omega) (by omega) (by omega), i32_ixn (by omega), bV_ok (hfl 3 _), if_pos (by simp)]; rfl
    | none =>
      show cond (pv_c2 .eq (i32 (-1)) (i32 (-1))) _ _ = _
      rw [c2_refl, if_neg (fun q => q rfl)]
  have h69 : ∀ w2 w3, ∃ u2 u3, rn L xs (d + 4) 300 69 [.ref 123, .int (i32 fc), w2, w3] [] (mH1 τ A fc) = if fc = 20 then some (.inl none, mFlt (mH1 τ A fc) 6 (rd τ 127 (A + 1))) else rn L xs (d + 4) 300 94 [.ref 123, .int (i32 fc), u2, u3] [] (mH1 τ A fc) := fun w2 w3 => by
    refine ⟨w2, w3, ?_⟩
    rw [e300_69 (d + 3), hoth 27 (by omega) (by omega) (by omega) (by omega), hc, show (20 : Int32) = i32 ((20 : Nat) : Int) from rfl, c2_ne (by omega) (by omega) (by omega) (by omega)]
    by_cases q : fc = 20
    · rw [c_f (by omega), h17, c_in (by omega) (by omega) (by omega), i32_ixn (by omega), bV_ok (hfl 6 _), if_pos q]; rfl
    · rw [c_t (by omega), if_neg q]
  obtain ⟨w2, w3, h0⟩ := h0
  refine ⟨fun hn => ?_, fun h0' h24 => ?_, fun h0' h24 => ?_⟩
  · rw [h0]
    unfold hvk at hn ⊢
    by_cases q1 : μ (A + 1) = 1
    · rw [if_pos q1]
      rw [if_neg (fun q => q q1)] at hn ⊢
      obtain ⟨u2, u3, e⟩ := h37 q1 w2 w3
      rw [e]
      by_cases q2 : fIx (fun f => decide (rl σ 42 f = rl σ 12 (A + 1))) fc 0 ≠ none
      · rw [if_pos q2, if_pos q2]; rfl
      · rw [if_neg q2] at hn ⊢
        rw [if_neg q2]
        obtain ⟨y2, y3, e⟩ := h69 u2 u3
        rw [e]
        by_cases q3 : fc = 20
        · rw [if_pos q3, if_pos q3]; rfl
        · rw [if_neg q3] at hn; exact absurd rfl hn
    · rw [if_neg q1, if_pos q1]; rfl
  all_goals
    obtain ⟨q1, q2, q3⟩ := hvk_0 h0'
    obtain ⟨u2, u3, e⟩ := h37 q1 w2 w3
    obtain ⟨y2, y3, e'⟩ := h69 u2 u3
    have hlt : A + 1 + 1 ≤ m := by
      apply Classical.byContradiction
      intro q
      have h36 := hLV.2.2.1
      rw [hμ, show m = A + 1 by omega] at h36
      omega
    have hst : wr (wr (wr (wr (wr (wr (wr (wr (wr (mH1 τ A fc) 138 fc (rd (mH1 τ A fc) 129 (A + 1))) 139 fc (i32 (A + 1 : Nat))) 140 fc 0) 143 fc (i32 P)) 144 fc (i32 V)) 141 fc (i32 V)) 202 fc (i32 (S + 1 : Nat))) 123 27 (i32 (fc + 1 : Nat))) 123 17 (i32 (A + 1 + 1 : Nat)) = mH0 τ A fc P V S := rfl
    have hL2 : LV m σ (mH0 τ A fc P V S) := hLV
    have h25 : rd (mH0 τ A fc P V S) 123 5 = 0 := by
      unfold mH0
      rw [wr_nei (by omega), wr_nei (by omega), wr_nek (by omega), wr_nek (by omega), wr_nek (by omega), wr_nek (by omega), wr_nek (by omega), wr_nek (by omega), wr_nek (by omega), hoth 5 (by omega) (by omega) (by omega) (by omega)]
      exact h5
    have hmt := mtake_ok (L := L) (xs := xs) hL2 hlt (show rd (mH0 τ A fc P V S) 123 17 = i32 (A + 1 + 1 : Nat) from wr_self _ _ _ _) (μ := 24) (by omega) h25 (d + 1)
    rw [show mu (mH0 τ A fc P V S) = μ from hμ] at hmt
    rw [h0, if_pos q1, e, if_neg (fun q => q q2), e', if_neg q3, e300_94 (d + 3), h17, c_in (by omega) (by omega) (by omega), c_in (by omega) (by omega) (by omega), c_in (by omega) (by omega) (by omega), c_in (by omega) (by omega) (by omega), c_in (by omega) (by omega) (by omega), c_in (by omega) (by omega) (by omega), c_in (by omega) (by omega) (by omega), c_in (by omega) (by omega) (by omega),  i32_ixn (by omega), i32_ixn (by omega), i32_n1, hoth 46 (by omega) (by omega) (by omega) (by omega), hP, hoth 36 (by omega) (by omega) (by omega) (by omega), hV, hoth 42 (by omega) (by omega) (by omega) (by omega), hS, i32_n1, hoth 27 (by omega) (by omega) (by omega) (by omega), hc, i32_n1, hst]
  · rw [if_neg h24] at hmt
    have hmt : rn L xs (d + 3) 303 0 [.ref 123, .int 24] [] (mH0 τ A fc P V S) = _ := hmt
    rw [bI_ok hmt, e300_195 (d + 3), show pv_c1 .eq (0 : Int32) = true from rfl, cond_true, e300_264 (d + 3), show rd (mFlt (mH0 τ A fc P V S) 2 (rd (mH0 τ A fc P V S) 127 (A + 1 + 1))) 123 5 = 2 from (wr_nei (by omega)).trans (wr_self _ _ _ _), show pv_c1 .ne (2 : Int32) = true from rfl, cond_true, e300_308 (d + 3)]
    rfl
  · rw [if_pos h24] at hmt
    have hmt : rn L xs (d + 3) 303 0 [.ref 123, .int 24] [] (mH0 τ A fc P V S) = _ := hmt
    refine ⟨dj y3, ?_⟩
    rw [bI_ok hmt]
    rfl
end FUNHEADM
