/-! REGIONS, THE COMPONENT: one part more, among what is put -/
section PUTSTEP
variable {L : Nat} {xs : Nat → Int32} {σ σ' τ : tvS} {D : pgD} {m f : Nat}
/-- calls of the function itself -/
def pgD.sf (D : pgD) (f p : Nat) : Nat := if D.K p = 3 ∧ D.vl p = f then 1 else 0
theorem put_step {p k n : Nat} (hF : PGF D m) (hf : f ≤ D.fc) (hR : PGR D σ τ) (hp1 : D.bP f ≤ p) (hp2 : p < D.bP (f + 1)) (hk : k ≤ 5000) (h7 : rd σ 74 7 = i32 (n : Int)) (b : Int32) (d : Nat) (v5 : Value) :
    rn L xs (d + 1) 163 18 [.ref 74, .int (i32 (f : Int)), .int b, .int (i32 (k : Int)), .int (i32 (p : Int)), v5] [] σ = bV (rn L xs d 164 0 [.ref 74, .int (i32 (p : Int)), .int (i32 (f : Int)), jv, jv] [] (wr (wr σ 77 p (i32 (n : Int))) 78 p (i32 (k : Int)))) (fun s1 => rn L xs (d + 1) 163 18 [.ref 74, .int (i32 (f : Int)), .int b, .int (i32 ((k + D.sf f p : Nat) : Int)), .int (i32 ((p + 1 : Nat) : Int)), (dj v5)] [] s1) X0 := by
  have hb4 := hF.1
  have hbl := (hF.le (D.fc + 1 - (f + 1)) (f + 1) (by omega))
  have hfr := hR.1 f hf
  have hRp := hR.2 p (by omega)
  have hPp := (hF.2.2 f hf).2.2.1 p hp1 hp2
  have hk20 := hPp.1.1
  rw [e163_18, c_in (by omega) (by omega) (by omega), i32_ixn (by omega), hfr.1.2.2.2.1, c2_ge (by omega) (by omega) (by omega) (by omega), c_f (by omega), c_in (by omega) (by omega) (by omega), c_in (by omega) (by omega) (by omega), c_in (by omega) (by omega) (by omega), i32_ixn (by omega), hRp.1.1, h7, show (3 : Int32) = i32 3 from rfl, c2_ne (by omega) (by omega) (by omega) (by omega)]
  have a0 : i32 (k : Int) + 0 = i32 ((k + 0 : Nat) : Int) := by rw [show (0 : Int32) = i32 0 from rfl, i32_add]; rfl
  unfold pgD.sf
  by_cases q3 : D.K p = 3
  · have e27 := (hRp.2.2.2.2.1 (.inr (.inl q3))).1
    have hvl := hPp.2.2.2.1 q3
    rw [c_f (by omega), c_in (by omega) (by omega) (by omega), e27, c2_ne (by omega) (by omega) (by omega) (by omega)]
    by_cases qf : D.vl p = f
    · rw [c_f (by omega), if_pos ⟨q3, qf⟩, e163_85, i32_up, i32_up]
    · rw [c_t (by omega), if_neg (fun h => qf h.2), e163_84, e163_85, a0, i32_up]
  · rw [c_t (by omega), if_neg (fun h => q3 h.1), e163_84, e163_85, a0, i32_up]
end PUTSTEP
