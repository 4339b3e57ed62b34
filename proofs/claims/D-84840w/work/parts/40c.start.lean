/-! TYPING, THE COMPONENT: a function's unknowns -/
section STARTC
variable {L : Nat} {xs : Nat → Int32} {σ σ' τ τ' : tvS}
variable {K1 K2 Bc Bm f : Nat} {Rc Rm : Nat → Nat → Prop} {pd : List (Nat × List Nat × (Nat → Nat))} {n a rc : Nat}
/-- so many unknowns are made, from N on -/
def unkC (N k : Nat) (T T' : tyJ) : Prop := T'.2 = T.2 ∧ T'.1.1 = N + k ∧ T'.1.2.2 = T.1.2.2 ∧ (∀ x, x < T.1.1 → T'.1.2.1.1 x = T.1.2.1.1 x) ∧ (∀ i, i < k → lone T'.1.1 T'.1.2.1 T'.1.2.2.1 T'.1.2.2.2.1 (N + i) ∧ ∀ y, ¬ T'.2.2 (N + i) y) ∧ ∀ x, x < T.1.1 → T'.1.2.1.2.1 x = T.1.2.1.2.1 x ∧ T'.1.2.1.2.2 x = T.1.2.1.2.2 x
theorem st_params {V kk : Nat} (hf : f < 21) (hV : V + kk ≤ 4101) (hkk : kk ≤ 5) (d : Nat) (P0 : Int32) : ∀ (j k0 u : Nat) (σ : tvS) (T : tyJ) (v4 : Value), k0 + j = kk → TJ K1 K2 Bc Bm f Rc Rm pd n (u + j) a rc T σ τ → rd σ 44 f = i32 (kk : Int) → rd σ 45 f = i32 (V : Int) →
    ∃ σ' T' w3 w4, rn L xs (d + 4) 142 12 [.ref 65, .int (i32 (f : Int)), .int P0, .int (i32 (k0 : Int)), v4] [] σ = rn L xs (d + 4) 142 54 [.ref 65, .int (i32 (f : Int)), .int P0, w3, w4] [] σ' ∧ TJ K1 K2 Bc Bm f Rc Rm pd n u a rc T' σ' τ ∧ exT Bc Bm T T' ∧ unkC T.1.1 j T T' ∧ (∀ i, i < j → rd σ' 67 (V + k0 + i) = i32 ((T.1.1 + i : Nat) : Int)) ∧ (∀ v, ¬ (V + k0 ≤ v ∧ v < V + kk) → rd σ' 67 v = rd σ 67 v) ∧ frT (67 :: gro8) gro8 [8] σ σ' := by
  intro j
  induction j with
  | zero =>
    intro k0 u σ T v4 e hT h1 h2
    have e : k0 = kk := by omega
    subst e
    refine ⟨σ, T, .int (i32 (k0 : Int)), v4, ?_, hT, exT.refl, ⟨rfl, rfl, rfl, fun _ _ => rfl, fun i hi => absurd hi (Nat.not_lt_zero _), fun _ _ => ⟨rfl, rfl⟩⟩, fun i hi => absurd hi (Nat.not_lt_zero _), fun _ _ => rfl, frT.refl⟩
    rw [e142_12 (d + 3), c_in (by omega) (by omega) (by omega), i32_ixn (by omega), h1, c2_ge (by omega) (by omega) (by omega) (by omega), c_t (by omega)]
  | succ j ih =>
    intro k0 u σ T v4 e hT h1 h2
    obtain ⟨s1, T1, a1, a2, a3, a4, a5, a6, a7, a8, a9, a10, a11, a12⟩ := TJ.addC (L := L) (xs := xs) (u := u + j) hT d
    have e1 : i32 (k0 : Int) + 1 = i32 ((k0 + 1 : Nat) : Int) := by rw [show (1 : Int32) = i32 1 from rfl, i32_add]; rfl
    have hT2 := a2.oC (k := 67) (i := V + k0) (x := i32 (T.1.1 : Int)) (.inr (.inl rfl))
    have w2 : frT (67 :: gro8) gro8 [8] σ (wr s1 67 (V + k0) (i32 (T.1.1 : Int))) := (a11.sub rfl rfl rfl).trans (frT_wr rfl (by decide))
    obtain ⟨σ', T', w3, w4, b1, b2, b3, b4, b5, b6, b7⟩ := ih (k0 + 1) u (wr s1 67 (V + k0) (i32 (T.1.1 : Int))) T1 (dj v4) (by omega) hT2 (by rw [w2.rd (j := 44) rfl]; exact h1) (by rw [w2.rd (j := 45) rfl]; exact h2)
    obtain ⟨c1, c2, c3, c4, c5, c6⟩ := b4
    refine ⟨σ', T', w3, w4, ?_, b2, a3.trans b3, ⟨by rw [c1, a4], by rw [c2, a5]; omega, by rw [c3, a6], fun x hx => by rw [c4 x (by rw [a5]; omega), a7 x hx], fun i hi => ?_, fun x hx => ⟨((c6 x (by rw [a5]; omega)).1).trans (a12 x hx).1, ((c6 x (by rw [a5]; omega)).2).trans (a12 x hx).2⟩⟩, fun i hi => ?_, fun v hv => ?_, w2.trans b7⟩
    · rw [e142_12 (d + 3), c_in (by omega) (by omega) (by omega), i32_ixn (by omega), h1, c2_ge (by omega) (by omega) (by omega) (by omega), c_f (by omega), c_in (by omega) (by omega) (by omega), bI_ok a1, h2, i32_add, show (V : Int) + (k0 : Int) = ((V + k0 : Nat) : Int) from by omega, c_in (by omega) (by omega) (by omega), i32_ixn (by omega), e1]
      exact b1
    · by_cases q : i = 0
      · subst q
        obtain ⟨d1, d2, d3, d4, d5⟩ := a8
        refine ⟨⟨by rw [c2]; show T.1.1 + 0 < _; omega, by rw [c3]; exact d2, by rw [c3]; exact d3, by rw [c4 _ (by rw [a5]; show T.1.1 + 0 < _; omega)]; exact d4, by rw [c3]; exact d5⟩, fun y => ?_⟩
        rw [c1]; exact a9 y
      · have := c5 (i - 1) (by omega)
        rw [a5, show T.1.1 + 1 + (i - 1) = T.1.1 + i from by omega] at this
        exact this
    · by_cases q : i = 0
      · subst q
        rw [show V + k0 + 0 = V + k0 from rfl, b6 (V + k0) (by omega), wr_self]; rfl
      · have := b5 (i - 1) (by omega)
        rw [a5, show V + (k0 + 1) + (i - 1) = V + k0 + i from by omega, show T.1.1 + 1 + (i - 1) = T.1.1 + i from by omega] at this
        exact this
    · rw [b6 v (by omega), wr_nei (by omega), a11.rd (j := 67) rfl]
end STARTC
