/-! TYPES: frames, room, find -/
section TYF
variable {L : Nat} {xs : Nat → Int32} {σ σ' : tvS}
/-- only the named ones have changed, nothing has grown -/
def frW (S : List Nat) (σ σ' : tvS) : Prop := (∀ j, inL S j = false → ∀ i, rd σ' j i = rd σ j i) ∧ σ'.2 = σ.2
theorem frW.refl {S : List Nat} : frW S σ σ := ⟨fun _ _ _ => rfl, rfl⟩
theorem frW.trans {S : List Nat} {a b e : tvS} (h : frW S a b) (g : frW S b e) : frW S a e := ⟨fun j hj i => (g.1 j hj i).trans (h.1 j hj i), g.2.trans h.2⟩
theorem frW_wr {S : List Nat} {k i : Nat} {x : Int32} (h : inL S k = true) : frW S σ (wr σ k i x) := ⟨fun j hj i' => rdne (fun q => by rw [q.1, h] at hj; cases hj), rfl⟩
theorem inL_app {S T : List Nat} {k : Nat} : inL (S ++ T) k = (inL S k || inL T k) := by
  induction S with
  | nil => rfl
  | cons a r ih => show (Nat.beq k a || inL (r ++ T) k) = _; rw [ih]; show _ = ((Nat.beq k a || inL r k) || inL T k); rw [Bool.or_assoc]
theorem frW.mono {S T : List Nat} {a b : tvS} (h : frW S a b) (hs : ∀ k, inL T k = false → inL S k = false) : frW T a b := ⟨fun j hj i => h.1 j (hs j hj) i, h.2⟩
theorem frW.ln {S : List Nat} (h : frW S σ σ') (k : Nat) : ln σ' k = ln σ k := congrFun (congrArg (fun z : _ × _ × _ => z.2.1) h.2) k
theorem frW.rh {S : List Nat} (h : frW S σ σ') (k : Nat) : rh σ' k = rh σ k := congrFun (congrArg (fun z : _ × _ × _ × _ => z.2.2.1) h.2) k
theorem frW.rm {S : List Nat} (h : frW S σ σ') : rm σ' = rm σ := congrArg (fun z : _ × _ × _ × _ => z.2.2.2) h.2
theorem frW.rl {S : List Nat} (h : frW S σ σ') (k i : Nat) : rl σ' k i = rl σ k i := congrFun (congrFun (congrArg (fun z : _ × _ => z.1) h.2) k) i
/-- links lead to roots -/
def LNK (N : Nat) (r : Nat → Nat) (σ : tvS) : Prop := ∃ rk : Nat → Nat, ∀ x, x < N → r x < N ∧ ((rd σ 52 x = i32 (-1) ∧ r x = x) ∨ ∃ y, y < N ∧ rd σ 52 x = i32 (y : Int) ∧ r y = r x ∧ rk y < rk x)
theorem find_up {N : Nat} {r rk : Nat → Nat} (h : ∀ x, x < N → r x < N ∧ ((rd σ 52 x = i32 (-1) ∧ r x = x) ∨ ∃ y, y < N ∧ rd σ 52 x = i32 (y : Int) ∧ r y = r x ∧ rk y < rk x))
    (hN : N ≤ ln σ 52) (hL : ln σ 52 ≤ 1000000) (d : Nat) (x1 : Int32) (v3 v4 : Value) : ∀ (n x : Nat), rk x ≤ n → x < N →
    rn L xs (d + 1) 84 2 [.ref 50, .int x1, .int (i32 x), v3, v4] [] σ = rn L xs (d + 1) 84 22 [.ref 50, .int x1, .int (i32 (r x)), v3, v4] [] σ ∧ rd σ 52 (r x) = i32 (-1) ∧ r (r x) = r x ∧ (r x ≠ x → rk (r x) < rk x) := by
  intro n
  induction n with
  | zero =>
    intro x hk hx
    rcases (h x hx).2 with ⟨a, b⟩ | ⟨y, _, _, _, e⟩
    · rw [e84_2, c_in (by omega) (by omega) (by omega), i32_ixn (by omega), a, i32_raw, c2_refl, b]
      exact ⟨rfl, a, b, fun q => absurd rfl q⟩
    · omega
  | succ n ih =>
    intro x hk hx
    rcases (h x hx).2 with ⟨a, b⟩ | ⟨y, hy, a, b, e⟩
    · rw [e84_2, c_in (by omega) (by omega) (by omega), i32_ixn (by omega), a, i32_raw, c2_refl, b]
      exact ⟨rfl, a, b, fun q => absurd rfl q⟩
    · rw [e84_2, c_in (by omega) (by omega) (by omega), i32_ixn (by omega), a, i32_raw, c2_eq (by omega) (by omega) (by omega) (by omega), c_f (by omega), c_in (by omega) (by omega) (by omega)]
      obtain ⟨i1, i2, i3, i4⟩ := ih y (by omega) hy
      rw [← b]
      refine ⟨i1, i2, i3, fun q => ?_⟩
      by_cases p : r y = y
      · rw [p]; exact e
      · have := i4 p; omega
theorem find_dn {N : Nat} {r : Nat → Nat} (hL : ln σ 52 ≤ 1000000) (d : Nat) (v1 : Value) {R : Nat} (hR : R < N) (hRR : r R = R) : ∀ (n x : Nat) (σ : tvS) (rk : Nat → Nat) (v4 : Value), (∀ x, x < N → r x < N ∧ ((rd σ 52 x = i32 (-1) ∧ r x = x) ∨ ∃ y, y < N ∧ rd σ 52 x = i32 (y : Int) ∧ r y = r x ∧ rk y < rk x)) →
    N ≤ ln σ 52 → ln σ 52 ≤ 1000000 → (∀ x, x < N → r x = R → x ≠ R → rk R < rk x) → rk x ≤ n → x < N → r x = R →
    ∃ σ', rn L xs (d + 1) 84 24 [.ref 50, v1, .int (i32 R), .int (i32 x), v4] [] σ = some (.inl (some (.int (i32 R))), σ') ∧ LNK N r σ' ∧ frW [52] σ σ' := by
  intro n
  induction n with
  | zero =>
    intro x σ rk v4 h hN hL hk hn hx hr
    rcases (h x hx).2 with ⟨a, b⟩ | ⟨y, _, _, _, e⟩
    · rw [e84_24, c_in (by omega) (by omega) (by omega), i32_ixn (by omega), a, i32_raw, c2_refl, e84_55]
      exact ⟨σ, rfl, ⟨rk, h⟩, frW.refl⟩
    · omega
  | succ n ih =>
    intro x σ rk v4 h hN hL hk hn hx hr
    rcases (h x hx).2 with ⟨a, b⟩ | ⟨y, hy, a, b, e⟩
    · rw [e84_24, c_in (by omega) (by omega) (by omega), i32_ixn (by omega), a, i32_raw, c2_refl, e84_55]
      exact ⟨σ, rfl, ⟨rk, h⟩, frW.refl⟩
    · rw [e84_24, c_in (by omega) (by omega) (by omega), i32_ixn (by omega), a, i32_raw, c2_eq (by omega) (by omega) (by omega) (by omega), c_f (by omega), c_in (by omega) (by omega) (by omega), c_in (by omega) (by omega) (by omega)]
      have hxR : x ≠ R := by
        intro q
        subst q
        by_cases p : y = x
        · rw [p] at e; omega
        · have := hk y hy (by rw [b, hr]) p
          omega
      obtain ⟨σ', i1, i2, i3⟩ := ih y (wr σ 52 x (i32 R)) rk (.int (i32 y)) (fun z hz => by
          refine ⟨(h z hz).1, ?_⟩
          by_cases p : z = x
          · subst p
            exact .inr ⟨R, hR, wr_self _ _ _ _, by rw [hRR, hr], hk z hz hr hxR⟩
          · rw [rdne (fun q => p q.2)]; exact (h z hz).2) hN hL hk (by omega) hy (by rw [b, hr])
      exact ⟨σ', i1, i2, (frW_wr rfl).trans i3⟩
theorem find_c {N : Nat} {r : Nat → Nat} (h : LNK N r σ) (hN : N ≤ ln σ 52) (hL : ln σ 52 ≤ 1000000) {x : Nat} (hx : x < N) (d : Nat) (v2 v3 v4 : Value) :
    ∃ σ', rn L xs (d + 1) 84 0 [.ref 50, .int (i32 x), v2, v3, v4] [] σ = some (.inl (some (.int (i32 (r x)))), σ') ∧ LNK N r σ' ∧ frW [52] σ σ' := by
  obtain ⟨rk, h⟩ := h
  obtain ⟨a, b, c, e⟩ := find_up (L := L) (xs := xs) h hN hL d (i32 x) v3 v4 (rk x) x (Nat.le_refl _) hx
  rw [e84_0, a, e84_22]
  exact find_dn hL d _ (h x hx).1 c (rk x) x σ rk v4 h hN hL (fun z hz hr hne => by
    obtain ⟨_, _, _, f⟩ := find_up (L := L) (xs := xs) h hN hL d (i32 x) v3 v4 (rk z) z (Nat.le_refl _) hz
    rw [hr] at f; exact f (fun q => hne q.symm)) (Nat.le_refl _) hx rfl
theorem LNK.idem {N : Nat} {r : Nat → Nat} (h : LNK N r σ) (hN : N ≤ ln σ 52) (hL : ln σ 52 ≤ 1000000) {x : Nat} (hx : x < N) : r x < N ∧ r (r x) = r x ∧ rd σ 52 (r x) = i32 (-1) := by
  obtain ⟨rk, h⟩ := h
  obtain ⟨a, b, c, e⟩ := find_up (L := 0) (xs := fun _ => 0) h hN hL 0 (i32 x) .null .null (rk x) x (Nat.le_refl _) hx
  exact ⟨(h x hx).1, c, b⟩
end TYF
