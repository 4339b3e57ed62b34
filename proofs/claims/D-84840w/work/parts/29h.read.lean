/-! READING: one more is captured -/
theorem nodup_len : ∀ (a b : List Nat), a.Nodup → (∀ x, x ∈ a → x ∈ b) → a.length ≤ b.length := by
  intro a
  induction a with
  | nil => intro b _ _; exact Nat.zero_le _
  | cons x r ih =>
    intro b hd hs
    rw [List.nodup_cons] at hd
    have hx := hs x List.mem_cons_self
    have := ih (b.erase x) hd.2 (fun y hy => (List.mem_erase_of_ne (fun e => hd.1 (by rw [← e]; exact hy))).mpr (hs y (List.mem_cons_of_mem _ hy)))
    rw [List.length_erase_of_mem hx] at this
    have hl : 0 < b.length := List.length_pos_of_mem hx
    show r.length + 1 ≤ b.length
    omega
def upC (cp : Nat → List (Nat × Nat)) (f : Nat) (q : Nat × Nat) : Nat → List (Nat × Nat) := fun g => if g = f then cp f ++ [q] else cp g
theorem sumC_up {cp : Nat → List (Nat × Nat)} {f : Nat} {q : Nat × Nat} : ∀ F, f < F → sumC (upC cp f q) F = sumC cp F + 1 := by
  intro F
  induction F with
  | zero => intro h; exact absurd h (Nat.not_lt_zero _)
  | succ F ih =>
    intro h
    show sumC (upC cp f q) F + (upC cp f q F).length = sumC cp F + (cp F).length + 1
    by_cases e : F = f
    · have h0 : ∀ G, G ≤ f → sumC (upC cp f q) G = sumC cp G := by
        intro G
        induction G with
        | zero => intro _; rfl
        | succ G ihG =>
          intro hG
          show sumC (upC cp f q) G + (upC cp f q G).length = sumC cp G + (cp G).length
          rw [ihG (by omega)]
          unfold upC
          rw [if_neg (by omega)]
      rw [h0 F (by omega)]
      unfold upC
      rw [if_pos e, e, List.length_append]
      show _ + ((cp f).length + 1) = _
      omega
    · rw [ih (by omega)]
      unfold upC
      rw [if_neg e]
      omega
section CAP2
variable {L : Nat} {xs : Nat → Int32} {σ σ' : tvS}
/-- only these have changed -/
def frCap (σ σ' : tvS) : Prop := (∀ j i, ¬ (37 ≤ j ∧ j ≤ 41 ∨ j = 15 ∧ i = 29) → rd σ' j i = rd σ j i) ∧ σ'.2.1 = σ.2.1 ∧ (∀ k, k ≠ 40 → k ≠ 41 → ln σ' k = ln σ k ∧ rh σ' k = rh σ k)
theorem frCap.trans {a b e : tvS} (h : frCap a b) (h' : frCap b e) : frCap a e := ⟨fun j i q => (h'.1 j i q).trans (h.1 j i q), h'.2.1.trans h.2.1, fun k p q => ⟨((h'.2.2 k p q).1).trans (h.2.2 k p q).1, ((h'.2.2 k p q).2).trans (h.2.2 k p q).2⟩⟩
theorem frCap.refl {a : tvS} : frCap a a := ⟨fun _ _ _ => rfl, rfl, fun _ _ _ => ⟨rfl, rfl⟩⟩
theorem frCap_wr {j i : Nat} {x : Int32} (h : 37 ≤ j ∧ j ≤ 41 ∨ j = 15 ∧ i = 29) : frCap σ (wr σ j i x) := ⟨fun j' i' q => by rw [rd_wr, if_neg (fun p => q (by rw [p.1, p.2]; exact h))], rfl, fun _ _ _ => ⟨rfl, rfl⟩⟩
theorem frCap_gw {k n : Nat} (h : k = 40 ∨ k = 41) : frCap σ (gw σ k n) := by
  refine ⟨fun j' i' q => ?_, rfl, fun k' p q => ⟨?_, ?_⟩⟩
  · rw [rd_gw, if_neg (by omega)]
  · show va_up σ.2.2.1 k n k' = _
    rw [va_up_ne _ _ (by omega)]; rfl
  · rw [rh_gw, if_neg (by omega)]
/-- room for one more is made, if there is none -/
theorem cap_room {K1 K2 F C : Nat} {cp : Nat → List (Nat × Nat)} (hR : roomC K1 K2 σ) (hC : CAPS F C cp σ) (hF : sumC cp F < 65536) (d : Nat) (v1 : Value) (x2 x3 : Int32) : ∃ σ' w1, rn L xs (d + 2) 73 25 [.ref 15, v1, .int x2, .int x3] [] σ = rn L xs (d + 2) 73 41 [.ref 15, w1, .int x2, .int x3] [] σ' ∧ roomC K1 K2 σ' ∧ CAPS F C cp σ' ∧ C < ln σ' 40 ∧ frCap σ σ' := by
  obtain ⟨r1, r2, r4, r5⟩ := hR
  have r2' := r2
  unfold pw2 at r2
  obtain ⟨a1, a2, a3, a4, a5⟩ := hC
  rw [e73_25 (d + 1), a1, i32_nat, c2_ne (by omega) (by omega) (by omega) (by omega)]
  by_cases q : C = ln σ 40
  · rw [c_f (by omega)]
    have h2 : (2 : Int32) * i32 (C : Int) = i32 ((2 * C : Nat) : Int) := by rw [show (2 : Int32) = i32 2 from rfl, i32_mul]; congr 1
    have hi : ix (i32 ((2 * C : Nat) : Int)) = 2 * C := i32_ixn (by omega)
    have g1 : gwOK σ 40 (i32 ((2 * C : Nat) : Int)) = true := by
      unfold gwOK
      rw [hi]
      simp only [Bool.and_eq_true, decide_eq_true_eq, Int32.lt_iff_toInt_lt, i32_ti (show -2147483648 ≤ ((2 * C : Nat) : Int) by omega) (show ((2 * C : Nat) : Int) < 2147483648 by omega)]
      refine ⟨by show ¬ _ < (0 : Int); omega, Nat.blt_eq.mpr (by omega), Nat.ble_eq_true_of_le (by omega), Nat.ble_eq_true_of_le (by omega), Nat.ble_eq_true_of_le (by omega)⟩
    have g2 : gwOK (gw σ 40 (2 * C)) 41 (i32 ((2 * C : Nat) : Int)) = true := by
      unfold gwOK
      rw [hi]
      simp only [Bool.and_eq_true, decide_eq_true_eq, Int32.lt_iff_toInt_lt, i32_ti (show -2147483648 ≤ ((2 * C : Nat) : Int) by omega) (show ((2 * C : Nat) : Int) < 2147483648 by omega)]
      refine ⟨by show ¬ _ < (0 : Int); omega, Nat.blt_eq.mpr (by show ln σ 41 < _; omega), Nat.ble_eq_true_of_le (by omega), Nat.ble_eq_true_of_le (by show 1 ≤ (rm σ).2.1 - 1; omega), Nat.ble_eq_true_of_le (by show 2 * C ≤ (rm σ).2.2 - 2 * C; omega)⟩
    have e75 : rn L xs (d + 1) 75 0 [.ref 15] [] σ = some (.inl none, gw (gw σ 40 (2 * C)) 41 (2 * C)) := by
      rw [e75_0, a1, h2, g1, cond_true, hi, e75_17, rd_gw, if_neg (by decide), a1, h2, g2, cond_true, hi, e75_34]
    rw [bV_ok e75]
    have l40 : ln (gw (gw σ 40 (2 * C)) 41 (2 * C)) 40 = 2 * C := rfl
    have l41 : ln (gw (gw σ 40 (2 * C)) 41 (2 * C)) 41 = 2 * C := rfl
    have rC : ∀ i, i < C → rd (gw (gw σ 40 (2 * C)) 41 (2 * C)) 40 i = rd σ 40 i ∧ rd (gw (gw σ 40 (2 * C)) 41 (2 * C)) 41 i = rd σ 41 i := by
      intro i hi
      have e41 : ln (gw σ 40 (2 * C)) 41 = ln σ 41 := rfl
      rw [rd_gw, if_neg (by decide), rd_gw, if_pos rfl, if_pos (by omega), rd_gw, if_pos rfl, if_pos (by rw [e41]; omega), rd_gw, if_neg (by decide)]
      exact ⟨rfl, rfl⟩
    have rO : ∀ j i, j ≠ 40 → j ≠ 41 → rd (gw (gw σ 40 (2 * C)) 41 (2 * C)) j i = rd σ j i := fun j i h1 h2 => by rw [rd_gw, if_neg h2, rd_gw, if_neg h1]
    refine ⟨_, _, rfl, ⟨rfl, by rw [l40]; unfold pw2; omega, ?_, ?_⟩, ⟨by rw [rO 15 29 (by decide) (by decide)]; exact a1, by rw [l40]; omega, a3, fun f hf => ?_, a5⟩, by rw [l40]; omega, (frCap_gw (Or.inl rfl)).trans (frCap_gw (Or.inr rfl))⟩
    · show K1 + 2 * (64 - 2 * C / 1024) + 10 ≤ (rm σ).2.1 - 1 - 1
      omega
    · show K2 + 2 * (131072 - 2 * (2 * C)) + 100 ≤ (rm σ).2.2 - 2 * C - 2 * C
      omega
    · obtain ⟨b1, b2, b3, b4, b5, b6, b7⟩ := a4 f hf
      refine ⟨?_, by rw [rO 38 f (by decide) (by decide)]; exact b2, by rw [rO 39 f (by decide) (by decide)]; exact b3, b4, b5, b6, b7⟩
      rw [rO 37 f (by decide) (by decide)]
      exact b1.congr _ _ (fun q hq => rC q.1 (b5 q hq))
  · rw [c_t (by omega)]
    exact ⟨σ, v1, rfl, ⟨r1, r2', r4, r5⟩, ⟨a1, a2, a3, a4, a5⟩, by omega, frCap.refl⟩
end CAP2
