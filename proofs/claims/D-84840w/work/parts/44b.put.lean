/-! REGIONS, THE COMPONENT: what is put -/
section PUTC
variable {L : Nat} {xs : Nat → Int32} {σ σ' : tvS}
/-- what is put: types, by number -/
def QP (n : Nat) (pe : Nat → Nat) (σ : tvS) : Prop := rd σ 74 7 = i32 (n : Int) ∧ n ≤ ln σ 75 ∧ ln σ 76 = ln σ 75 ∧ ∀ i, i < n → rd σ 75 i = i32 (pe i : Int)
def frQ (σ σ' : tvS) : Prop := frG [74, 75, 76] [75, 76] σ σ' ∧ ∀ i, i ≠ 7 → rd σ' 74 i = rd σ 74 i
theorem frQ.trans {a b e : tvS} (h : frQ a b) (g : frQ b e) : frQ a e := ⟨h.1.trans g.1, fun i hi => (g.2 i hi).trans (h.2 i hi)⟩
theorem put_c {K1 K2 n : Nat} {pe : Nat → Nat} (hR : ROOM K1 K2 σ) (h : QP n pe σ) (hn : n < 32768) (v : Nat) (d : Nat) :
    ∃ σ', rn L xs (d + 1) 165 0 [.ref 74, .int (i32 (v : Int))] [] σ = some (.inl none, σ') ∧ QP (n + 1) (upN pe n v) σ' ∧ ROOM K1 K2 σ' ∧ frQ σ σ' := by
  obtain ⟨h1, h2, h0, h3⟩ := h
  have hle := hR.le (k := 75) (M := 32768) (by decide)
  have key : ∀ s : tvS, ROOM K1 K2 s → rd s 74 7 = i32 (n : Int) → n < ln s 75 → ln s 75 ≤ 32768 → ln s 76 = ln s 75 → (∀ i, i < n → rd s 75 i = i32 (pe i : Int)) → frQ σ s →
      ∃ σ', rn L xs (d + 1) 165 46 [.ref 74, .int (i32 (v : Int))] [] s = some (.inl none, σ') ∧ QP (n + 1) (upN pe n v) σ' ∧ ROOM K1 K2 σ' ∧ frQ σ σ' := by
    intro s hs e hl hl2 hl3 hw hf
    rw [e165_46, e, c_in (by omega) (by omega) (by omega), i32_ixn (by omega)]
    refine ⟨_, rfl, ⟨?_, ?_, hl3, fun i hi => ?_⟩, hs.wr.wr, hf.trans ⟨(frG_wr rfl).trans (frG_wr rfl), fun i hi => by rw [wr_nei hi, wr_nek (by decide)]⟩⟩
    · rw [wr_self, show (1 : Int32) = i32 1 from rfl, i32_add]; rfl
    · show n + 1 ≤ ln s 75; omega
    · rw [wr_nek (by decide)]
      unfold upN
      by_cases q : i = n
      · rw [if_pos q, q, wr_self]
      · rw [if_neg q, wr_nei q]; exact hw i (by omega)
  rw [e165_0, h1, i32_nat, c2_ne (by omega) (by omega) (by omega) (by omega)]
  by_cases q : n = ln σ 75
  · rw [c_f (by omega)]
    have e2 : (2 : Int32) * i32 (n : Int) = i32 ((2 * ln σ 75 : Nat) : Int) := by rw [show (2 : Int32) = i32 2 from rfl, i32_mul, q]; congr 1
    obtain ⟨g1, g2, g3, g4⟩ := hR.grow (k := 75) (M := 32768) (by decide) (by omega) (by decide)
    rw [e2, g1, cond_true, i32_ixn (by omega), e165_29]
    have r7 : rd (gw σ 75 (2 * ln σ 75)) 74 7 = i32 (n : Int) := by rw [rd_gw, if_neg (by decide)]; exact h1
    have l76 : ln (gw σ 75 (2 * ln σ 75)) 76 = ln σ 75 := by rw [ln_gw, if_neg (by decide)]; exact h0
    obtain ⟨k1, k2, k3, k4⟩ := g2.grow (k := 76) (M := 32768) (by decide) (by rw [l76]; omega) (by decide)
    rw [l76] at k1 k2
    rw [r7, e2, k1, cond_true, i32_ixn (by omega)]
    exact key _ k2 (by rw [rd_gw, if_neg (by decide)]; exact r7) (by rw [ln_gw, if_neg (by decide), ln_gw, if_pos rfl]; omega) (by rw [ln_gw, if_neg (by decide), ln_gw, if_pos rfl]; omega) (by rw [ln_gw, if_pos rfl, ln_gw, if_neg (by decide), ln_gw, if_pos rfl]) (fun i hi => by rw [rd_gw, if_neg (by decide), rd_gw, if_pos rfl, if_pos (by omega)]; exact h3 i hi) ⟨(frG_gw rfl rfl).trans (frG_gw rfl rfl), fun i _ => by rw [rd_gw, if_neg (by decide), rd_gw, if_neg (by decide)]⟩
  · rw [c_t (by omega)]
    exact key σ hR h1 (by omega) hle h0 h3 ⟨frG.refl, fun _ _ => rfl⟩
end PUTC
