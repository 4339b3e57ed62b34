/-! READING: the head of a function -/
section FUNHEAD
variable {L : Nat} {xs : Nat → Int32} {K1 K2 m : Nat} {μ : Nat → Nat} {g fc : Nat} {sc : List Nat} {fs fs' : List (Nat × Nat × List Nat)} {F D H n A P r r0 V S : Nat} {σ τ σ' τ' σ1 τ1 σ'' τ'' : tvS}
/-- what a function's name leads to -/
def hvk (σ : tvS) (a A fc : Nat) : Nat := if a ≠ 1 then 2 else if fIx (fun f => decide (rl σ 42 f = rl σ 12 A)) fc 0 ≠ none then 3 else if fc = 20 then 6 else 0
theorem hvk_ne {a : Nat} (h : hvk σ a A fc ≠ 0) : pv_c1 .le (i32 (hvk σ a A fc)) = false := by
  have h2 : hvk σ a A fc = 2 ∨ hvk σ a A fc = 3 ∨ hvk σ a A fc = 6 := by
    unfold hvk at h ⊢
    split at h <;> simp_all
    split at h <;> simp_all
  rcases h2 with e | e | e <;> rw [e] <;> decide
theorem hvk_0 {a : Nat} (h : hvk σ a A fc = 0) : a = 1 ∧ fIx (fun f => decide (rl σ 42 f = rl σ 12 A)) fc 0 = none ∧ fc ≠ 20 := by
  unfold hvk at h
  by_cases q1 : a ≠ 1
  · rw [if_pos q1] at h; omega
  · rw [if_neg q1] at h
    by_cases q2 : fIx (fun f => decide (rl σ 42 f = rl σ 12 A)) fc 0 ≠ none
    · rw [if_pos q2] at h; omega
    · rw [if_neg q2] at h
      by_cases q3 : fc = 20
      · rw [if_pos q3] at h; omega
      · exact ⟨by omega, Classical.byContradiction q2, q3⟩
def cH0 (σ : tvS) (A fc : Nat) : tvS := wr (wr (wr (wl (wr σ 62 3 (i32 (A + 1 : Nat))) 42 fc (rl σ 12 (A + 1))) 43 fc (i32 (A + 1 : Nat))) 15 38 (i32 (fc + 1 : Nat))) 62 3 (i32 (A + 1 + 1 : Nat))
def cHd (σ : tvS) (A fc V : Nat) : tvS := wr (wr (wr (wr (cH0 σ A fc) 62 3 (i32 (A + 1 + 1 + 1 : Nat))) 62 5 (i32 (-1))) 62 6 (i32 (-1))) 45 fc (i32 V)
/-- the head, the component -/
theorem head_c (hLV : LV m σ τ) (hμ : mu τ = μ) (hA : A + 1 ≤ m) (h62 : rd σ 62 3 = i32 A) (hx : xnOK σ = true) (hfc : rd σ 15 38 = i32 fc) (hg : rd σ 62 7 = i32 fc) (hfc2 : fc ≤ 20) (hV : rd σ 15 19 = i32 V) (d : Nat) :
    (hvk σ (μ (A + 1)) (A + 1) fc ≠ 0 → rn L xs (d + 6) 110 0 [.ref 62, jv, jv, jv] [] σ = some (.inr (1016, (rm σ).1), cFlt (wr σ 62 3 (i32 (A + 1 : Nat))) (i32 (hvk σ (μ (A + 1)) (A + 1) fc)) (rd σ 13 (A + 1)))) ∧
    (hvk σ (μ (A + 1)) (A + 1) fc = 0 → μ (A + 1 + 1) ≠ 24 → rn L xs (d + 6) 110 0 [.ref 62, jv, jv, jv] [] σ = some (.inr (1016, (rm σ).1), cFlt (cH0 σ A fc) 2 (rd σ 13 (A + 1 + 1)))) ∧
    (hvk σ (μ (A + 1)) (A + 1) fc = 0 → μ (A + 1 + 1) = 24 → ∃ v, rn L xs (d + 6) 110 0 [.ref 62, jv, jv, jv] [] σ = rn L xs (d + 6) 110 192 [.ref 62, .int 0, .int 1, v] [] (cHd σ A fc V)) := by
  have hm := hLV.1
  have hL1 : LV m (wr σ 62 3 (i32 (A + 1 : Nat))) τ := hLV
  have hx1 : xnOK (wr σ 62 3 (i32 (A + 1 : Nat))) = true := hx
  have hfl : ∀ k : Int32, rn L xs (d + 5) 111 0 [.ref 62, .int k, .int (i32 (A + 1 : Nat))] [] (wr σ 62 3 (i32 (A + 1 : Nat))) = some (.inr (1016, (rm σ).1), cFlt (wr σ 62 3 (i32 (A + 1 : Nat))) k (rd σ 13 (A + 1))) := fun k => cfail_ok hL1 hA hx1 (d + 3) k
  have h3 : rd (wr σ 62 3 (i32 (A + 1 : Nat))) 62 3 = i32 (A + 1 : Nat) := wr_self _ _ _ _
  have h7 : rd (wr σ 62 3 (i32 (A + 1 : Nat))) 62 7 = i32 fc := (wr_nei (by omega)).trans hg
  have h38 : rd (wr σ 62 3 (i32 (A + 1 : Nat))) 15 38 = i32 fc := (wr_nek (by omega)).trans hfc
  have h57 : rn L xs (d + 5) 57 0 [.ref 6, .int (i32 (A + 1 : Nat))] [] (wr σ 62 3 (i32 (A + 1 : Nat))) = some (.inl (some (.int (rd σ 10 (A + 1)))), wr σ 62 3 (i32 (A + 1 : Nat))) := by
    rw [e57_0, c_in (by omega) (by omega) (by omega), i32_ixn (by omega)]; rfl
  have h59 : rn L xs (d + 5) 59 0 [.ref 6, .int (i32 (A + 1 : Nat))] [] (wr σ 62 3 (i32 (A + 1 : Nat))) = some (.inl (some (.long (rl σ 12 (A + 1)))), wr σ 62 3 (i32 (A + 1 : Nat))) := by
    rw [e59_0, c_in (by omega) (by omega) (by omega), i32_ixn (by omega)]; rfl
  have h0 : rn L xs (d + 6) 110 0 [.ref 62, jv, jv, jv] [] σ = if μ (A + 1) = 1 then rn L xs (d + 6) 110 34 [.ref 62, dj jv, dj jv, dj jv] [] (wr σ 62 3 (i32 (A + 1 : Nat))) else some (.inr (1016, (rm σ).1), cFlt (wr σ 62 3 (i32 (A + 1 : Nat))) 2 (rd σ 13 (A + 1))) := by
    rw [e110_0 (d + 5), h62, i32_n1, bI_ok h57, ck_name hLV hA, hμ]
    by_cases q : μ (A + 1) = 1
    · rw [decide_eq_true q, cond_true, if_pos q]
    · rw [decide_eq_false q, cond_false, if_neg q, h3, bV_ex (hfl 2)]; rfl
  have h34 : ∀ v1 v2 v3, ∃ w1 w2 w3, rn L xs (d + 6) 110 34 [.ref 62, v1, v2, v3] [] (wr σ 62 3 (i32 (A + 1 : Nat))) = if fIx (fun f => decide (rl σ 42 f = rl σ 12 (A + 1))) fc 0 ≠ none then some (.inr (1016, (rm σ).1), cFlt (wr σ 62 3 (i32 (A + 1 : Nat))) 3 (rd σ 13 (A + 1))) else rn L xs (d + 6) 110 72 [.ref 62, w1, w2, w3] [] (wr σ 62 3 (i32 (A + 1 : Nat))) := fun v1 v2 v3 => by
    refine ⟨dj (dj v1), dj (dj v2), dj (dj v3), ?_⟩
    rw [e110_34 (d + 5), h3, bL_ok h59, h38, bI_ok (cfun_ok (d + 4) (rl σ 12 (A + 1)) (K := fc) (by omega))]
    show cond (pv_c2 .eq (vRes (fIx (fun f => decide (rl σ 42 f = rl σ 12 (A + 1))) fc 0)) (i32 (-1))) _ _ = _
    cases hf : fIx (fun f => decide (rl σ 42 f = rl σ 12 (A + 1))) fc 0 with
    | some f =>
      have := fIx_lt _ _ _ hf
      show cond (pv_c2 .eq (i32 (f : Int)) (i32 (-1))) _ _ = _
      rw [c2_eq (by omega) (by omega) (by omega) (by omega), c_f (by omega), h3, bV_ex (hfl 3), if_pos (by simp)]; rfl
    | none =>
      show cond (pv_c2 .eq (i32 (-1)) (i32 (-1))) _ _ = _
      rw [c2_refl, if_neg (fun q => q rfl)]
  have h72 : ∀ v1 v2 v3, ∃ w1 w2 w3, rn L xs (d + 6) 110 72 [.ref 62, v1, v2, v3] [] (wr σ 62 3 (i32 (A + 1 : Nat))) = if fc = 20 then some (.inr (1016, (rm σ).1), cFlt (wr σ 62 3 (i32 (A + 1 : Nat))) 6 (rd σ 13 (A + 1))) else rn L xs (d + 6) 110 91 [.ref 62, w1, w2, w3] [] (wr σ 62 3 (i32 (A + 1 : Nat))) := fun v1 v2 v3 => by
    refine ⟨v1, v2, v3, ?_⟩
    rw [e110_72 (d + 5), h7, show (20 : Int32) = i32 ((20 : Nat) : Int) from rfl, c2_ne (by omega) (by omega) (by omega) (by omega)]
    by_cases q : fc = 20
    · rw [c_f (by omega), h3, bV_ex (hfl 6), if_pos q]; rfl
    · rw [c_t (by omega), if_neg q]
  refine ⟨fun hn => ?_, fun h0' h24 => ?_, fun h0' h24 => ?_⟩
  · rw [h0]
    unfold hvk at hn ⊢
    by_cases q1 : μ (A + 1) = 1
    · rw [if_pos q1]
      rw [if_neg (fun q => q q1)] at hn ⊢
      obtain ⟨w1, w2, w3, e⟩ := h34 (dj jv) (dj jv) (dj jv)
      rw [e]
      by_cases q2 : fIx (fun f => decide (rl σ 42 f = rl σ 12 (A + 1))) fc 0 ≠ none
      · rw [if_pos q2, if_pos q2]; rfl
      · rw [if_neg q2] at hn ⊢
        rw [if_neg q2]
        obtain ⟨u1, u2, u3, e⟩ := h72 w1 w2 w3
        rw [e]
        by_cases q3 : fc = 20
        · rw [if_pos q3, if_pos q3]; rfl
        · rw [if_neg q3] at hn; exact absurd rfl hn
    · rw [if_neg q1, if_pos q1]; rfl
  all_goals
    obtain ⟨q1, q2, q3⟩ := hvk_0 h0'
    obtain ⟨w1, w2, w3, e⟩ := h34 (dj jv) (dj jv) (dj jv)
    obtain ⟨u1, u2, u3, e'⟩ := h72 w1 w2 w3
    have hlt : A + 1 + 1 ≤ m := by
      apply Classical.byContradiction
      intro q
      have h36 := hLV.2.2.1
      rw [hμ, show m = A + 1 by omega] at h36
      omega
    rw [h0, if_pos q1, e, if_neg (fun q => q q2), e', if_neg q3, e110_91 (d + 5), h3, bL_ok h59, h7, c_in (by omega) (by omega) (by omega), c_in (by omega) (by omega) (by omega), i32_ixn (by omega), i32_n1, h3, i32_n1]
    have hL2 : LV m (cH0 σ A fc) τ := by
      refine (hLV.congr (σ' := cH0 σ A fc) (fun j hj i => ?_) (fun i => ?_) (fun _ _ _ => rfl)).1
      · have := inL3 hj
        unfold cH0
        rw [rdne (by omega), rdne (by omega), rdne (by omega)]
        show rd (wr σ 62 3 (i32 (A + 1 : Nat))) j i = _
        exact rdne (by omega)
      · show rl (wl (wr σ 62 3 (i32 (A + 1 : Nat))) 42 fc (rl σ 12 (A + 1))) 12 i = _
        rw [rl_wl, if_neg (by omega)]; rfl
    have hx2 : xnOK (cH0 σ A fc) = true := hx
    have hmu := rmust_ok (L := L) (xs := xs) hL2 hlt (show rd (cH0 σ A fc) 62 3 = i32 (A + 1 + 1 : Nat) from wr_self _ _ _ _) (μ := 24) (by omega) (by omega) hx2 (d + 1)
    rw [hμ] at hmu
  · rw [if_neg h24] at hmu
    have hmu : rn L xs (d + 5) 112 0 [.ref 62, .int 40] [] (cH0 σ A fc) = _ := hmu
    rw [show wr (wr (wr (wl (wr σ 62 3 (i32 (A + 1 : Nat))) 42 fc (rl σ 12 (A + 1))) 43 fc (i32 (A + 1 : Nat))) 15 38 (i32 (fc + 1 : Nat))) 62 3 (i32 (A + 1 + 1 : Nat)) = cH0 σ A fc from rfl, bV_ex hmu]
    rfl
  · rw [if_pos h24] at hmu
    have hmu : rn L xs (d + 5) 112 0 [.ref 62, .int 40] [] (cH0 σ A fc) = _ := hmu
    have e7 : rd (wr (cH0 σ A fc) 62 3 (i32 (A + 1 + 1 + 1 : Nat))) 62 7 = i32 fc := by
      unfold cH0
      rw [wr_nei (by omega), wr_nei (by omega), wr_nek (by omega), wr_nek (by omega)]
      exact h7
    have e19 : rd (wr (cH0 σ A fc) 62 3 (i32 (A + 1 + 1 + 1 : Nat))) 15 19 = i32 V := by
      unfold cH0
      rw [wr_nek (by omega), wr_nek (by omega), wr_nei (by omega), wr_nek (by omega)]
      show rd (wr σ 62 3 (i32 (A + 1 : Nat))) 15 19 = _
      rw [wr_nek (by omega)]; exact hV
    refine ⟨dj (dj u3), ?_⟩
    rw [show wr (wr (wr (wl (wr σ 62 3 (i32 (A + 1 : Nat))) 42 fc (rl σ 12 (A + 1))) 43 fc (i32 (A + 1 : Nat))) 15 38 (i32 (fc + 1 : Nat))) 62 3 (i32 (A + 1 + 1 : Nat)) = cH0 σ A fc from rfl, bV_ok hmu, e7, e19, c_in (by omega) (by omega) (by omega), i32_ixn (by omega)]
    rfl
end FUNHEAD
