/-! READING: how deep parts lie, the loop -/
section DEPLOOP
variable {L : Nat} {xs : Nat → Int32} {K1 K2 m : Nat} {μ : Nat → Nat} {g fc : Nat} {σ τ : tvS} {bk bP tV bF bS : Nat → Nat}
theorem nwx_none {x1 y p : Int32} (hp : p ≠ i32 (-1)) (e : nwx x1 y p = i32 (-1)) : x1 = i32 (-1) ∧ pv_c2 .lt y 100 = true := by
  unfold nwx at e
  cases k : pv_c2 .lt y 100 with
  | true => rw [k, cond_true] at e; exact ⟨e, rfl⟩
  | false =>
    exfalso
    rw [k, cond_false] at e
    cases k2 : pv_c2 .eq x1 (i32 (-1)) with
    | true => rw [k2, cond_true] at e; exact hp e
    | false =>
      rw [k2, cond_false] at e
      cases k3 : pv_c2 .ge p x1 with
      | true => rw [k3, cond_true] at e; exact of_decide_eq_false k2 e
      | false => rw [k3, cond_false] at e; exact hp e
theorem dep_loop (h : PRG0 K1 K2 m μ fc bk bP tV bF bS σ τ) : ∀ (n : Nat) (σ' τ' : tvS) (x1 : Int32), n ≤ bP (fc + 1) → (∀ j i, j ≠ 64 → rd σ' j i = rd σ j i) → σ'.2 = σ.2 → (∀ j i, j ≠ 165 → rd τ' j i = rd τ j i) → τ'.2 = τ.2 → (∀ q, n ≤ q → q < bP (fc + 1) → rd σ' 64 q = rd τ' 165 q) →
    ∃ (σ'' τ'' : tvS) (x : Int32), (∀ j i, j ≠ 64 → rd σ'' j i = rd σ j i) ∧ σ''.2 = σ.2 ∧ (∀ j i, j ≠ 165 → rd τ'' j i = rd τ j i) ∧ τ''.2 = τ.2 ∧
      (∀ d v3, ∃ v2 v3', rn L xs (d + 3) 139 12 [.ref 62, .int x1, .int (i32 ((n : Int) - 1)), v3] [] σ' = rn L xs (d + 3) 139 101 [.ref 62, .int x, v2, v3'] [] σ'') ∧
      (∀ d v3, ∃ v2 v3', rn L xs (d + 3) 330 9 [.ref 123, .int x1, .int (i32 ((n : Int) - 1)), v3] [] τ' = rn L xs (d + 3) 330 91 [.ref 123, .int x, v2, v3'] [] τ'') ∧
      (∀ q, n ≤ q → q < bP (fc + 1) → rd σ'' 64 q = rd σ' 64 q) ∧ (∀ k, k < n → (rd σ 24 k = i32 (-1) ∧ rd σ'' 64 k = 0) ∨ ∃ q : Nat, k < q ∧ q < bP (fc + 1) ∧ rd σ 24 k = i32 q ∧ rd σ'' 64 k = rd σ'' 64 q + 1) ∧ (x = i32 (-1) → x1 = i32 (-1) ∧ ∀ k, k < n → pv_c2 .lt (rd σ'' 64 k) 100 = true) := by
  intro n
  induction n with
  | zero =>
    intro σ' τ' x1 hn h1 h2 h3 h4 h5
    refine ⟨σ', τ', x1, h1, h2, h3, h4, fun d v3 => ⟨.int (i32 (((0 : Nat) : Int) - 1)), v3, ?_⟩, fun d v3 => ⟨.int (i32 (((0 : Nat) : Int) - 1)), v3, ?_⟩, fun _ _ _ => rfl, fun k hk => by omega, fun e => ⟨e, fun k hk => by omega⟩⟩
    · rw [e139_12 (d + 2), c1_lt (by omega) (by omega), c_t (by omega)]
    · rw [e330_9 (d + 2), c1_lt (by omega) (by omega), c_t (by omega)]
  | succ k ih =>
    intro σ' τ' x1 hn h1 h2 h3 h4 h5
    obtain ⟨hP, hpar⟩ := h.par (p := k) (by omega)
    have hc := h.1
    obtain ⟨c1, c2, _⟩ := hc.lv
    have hm := c1.1
    have hpr : ∃ S, prtR m S σ τ k := by
      obtain ⟨V', S', C, q, cp, _, _, _, _, _, _, _, _, _, _, hpr, _⟩ := hc
      exact ⟨S', hpr k (by omega)⟩
    obtain ⟨S, κ, s, kids, g1, g2, g3, g4, g5, ⟨a, b, g6, g6', g6'', g6'''⟩, g7, g8, g9, g10, _⟩ := hpr
    have hk1 : ((k + 1 : Nat) : Int) - 1 = (k : Int) := by omega
    have hk2 : i32 (k : Int) + i32 (-1) = i32 ((k : Int) - 1) := i32_add _ _
    have ⟨y, hy1, hy2, hy3⟩ : ∃ y : Int32, (rd σ' 24 k = i32 (-1) ∧ y = 0 ∨ ∃ q : Nat, q < 4101 ∧ rd σ' 24 k = i32 q ∧ y = rd σ' 64 q + 1) ∧ (rd τ' 159 k = i32 (-1) ∧ y = 0 ∨ ∃ q : Nat, q < 4101 ∧ rd τ' 159 k = i32 q ∧ y = rd τ' 165 q + 1) ∧ ((rd σ 24 k = i32 (-1) ∧ y = 0) ∨ ∃ q : Nat, k < q ∧ q < bP (fc + 1) ∧ rd σ 24 k = i32 q ∧ y = rd σ' 64 q + 1) := by
      rcases hpar with e | ⟨q, q1, q2, q3⟩
      · exact ⟨0, Or.inl ⟨(h1 24 k (by omega)).trans e, rfl⟩, Or.inl ⟨(h3 159 k (by omega)).trans (g10.trans e), rfl⟩, Or.inl ⟨e, rfl⟩⟩
      · exact ⟨rd σ' 64 q + 1, Or.inr ⟨q, by omega, (h1 24 k (by omega)).trans q3, rfl⟩, Or.inr ⟨q, by omega, (h3 159 k (by omega)).trans (g10.trans q3), by rw [h5 q (by omega) q2]⟩, Or.inr ⟨q, by omega, q2, q3, rfl⟩⟩
    have hx : rd τ' 127 a = rd σ' 13 a := by rw [h3 127 a (by omega), h1 13 a (by omega)]; exact (c1.2.1 a (by omega)).2.1.symm
    have dc := fun d v3 => dep_c (L := L) (xs := xs) (x1 := x1) (show k < 4101 by omega) (show a < 3001 by omega) ((h1 17 k (by omega)).trans g6) hy1 d v3
    have dm := fun d v3 => dep_m (L := L) (xs := xs) (x1 := x1) (show k < 4101 by omega) (show a < 3001 by omega) ((h3 152 k (by omega)).trans (g4.trans g6)) hy2 d v3
    rw [hx] at dm
    rw [hk2] at dc dm
    obtain ⟨σ'', τ'', x, r1, r2, r3, r4, r5, r6, r7, r8, r9⟩ := ih (wr σ' 64 k y) (wr τ' 165 k y) (nwx x1 y (rd σ' 13 a)) (by omega) (fun j i hj => by rw [rdne (by omega)]; exact h1 j i hj) h2 (fun j i hj => by rw [rdne (by omega)]; exact h3 j i hj) h4 (fun q q1 q2 => by
      by_cases e : q = k
      · rw [e, wr_self, wr_self]
      · rw [rdne (by omega), rdne (by omega)]; exact h5 q (by omega) q2)
    have ek : rd σ'' 64 k = y := by rw [r7 k (Nat.le_refl _) (by omega), wr_self]
    have eq : ∀ q, k < q → q < bP (fc + 1) → rd σ'' 64 q = rd σ' 64 q := fun q q1 q2 => by rw [r7 q (by omega) q2, rdne (by omega)]
    have hp : rd σ' 13 a ≠ i32 (-1) := fun e => by
      have hge := (c1.2.2.2.2.2.2.2 a (by omega)).1
      rw [h1 13 a (by omega)] at e
      rw [e, i32_ti (by omega) (by omega)] at hge
      omega
    refine ⟨σ'', τ'', x, r1, r2, r3, r4, fun d v3 => ?_, fun d v3 => ?_, fun q q1 q2 => eq q (by omega) q2, fun j hj => ?_, fun e => ?_⟩
    · obtain ⟨v', e⟩ := dc d v3
      rw [hk1, e]
      exact r5 d v'
    · obtain ⟨v', e⟩ := dm d v3
      rw [hk1, e]
      exact r6 d v'
    · by_cases e : j = k
      · rw [e]
        rcases hy3 with ⟨z1, z2⟩ | ⟨q, q1, q2, q3, q4⟩
        · exact .inl ⟨z1, ek.trans z2⟩
        · exact .inr ⟨q, q1, q2, q3, by rw [ek, q4, eq q q1 q2]⟩
      · exact r8 j (by omega)
    · obtain ⟨z1, z2⟩ := r9 e
      obtain ⟨z3, z4⟩ := nwx_none hp z1
      refine ⟨z3, fun j hj => ?_⟩
      by_cases e : j = k
      · rw [e, ek]; exact z4
      · exact z2 j (by omega)
end DEPLOOP
