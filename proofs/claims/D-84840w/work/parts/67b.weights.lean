/-! WEIGHTS of parts by the lexemes of calls -/
/-- the most of a row of numbers -/
def mxN (g : Nat → Nat) (s : Nat) : Nat → Nat
  | 0 => 0
  | j + 1 => max (mxN g s j) (g (s + j))
section WEIGHTS
variable {D : pgD} {m : Nat} {fi la : Nat → Nat}
theorem mxN_le {g : Nat → Nat} {s B : Nat} : ∀ j, (∀ q, s ≤ q → q < s + j → g q ≤ B) → mxN g s j ≤ B := by
  intro j
  induction j with
  | zero => intro _; exact Nat.zero_le _
  | succ j ih =>
    intro h
    have h1 := ih (fun q q1 q2 => h q q1 (by omega))
    have h2 := h (s + j) (by omega) (by omega)
    show max _ _ ≤ B
    omega
theorem mxN_at {g : Nat → Nat} {s q : Nat} : ∀ j, s ≤ q → q < s + j → g q ≤ mxN g s j := by
  intro j
  induction j with
  | zero => intro h1 h2; omega
  | succ j ih =>
    intro h1 h2
    show g q ≤ max (mxN g s j) (g (s + j))
    by_cases c : q = s + j
    · rw [c]; omega
    · have := ih h1 (by omega); omega
/-- a call's lexemes weigh more than those of its parts -/
theorem weights (hF : PGF D m) (hs : ∀ q, q < D.bP (D.fc + 1) → fi q ≤ la q ∧ la q < m)
    (hc : ∀ f p w k q : Nat, f ≤ D.fc → D.bP f ≤ p → p < D.bP (f + 1) → D.K p = 3 → (D.kd p)[w]? = some k → D.st k ≤ q → q ≤ k → fi p + 2 + 2 * w ≤ fi q ∧ la q + 1 + 2 * ((D.kd p).length - 1 - w) ≤ la p) :
    ∃ W : Nat → Nat, (∀ f p w k : Nat, f ≤ D.fc → D.bP f ≤ p → p < D.bP (f + 1) → (D.kd p)[w]? = some k → cwt D p + W k ≤ W p) ∧ ∀ p, W p ≤ m := by
  obtain ⟨g, hg⟩ : ∃ g : Nat → Nat, g = fun q => if q < D.bP (D.fc + 1) ∧ D.K q = 3 then la q + 1 - fi q else 0 := ⟨_, rfl⟩
  have gle : ∀ q, g q ≤ m := fun q => by
    rw [hg]
    show (if q < D.bP (D.fc + 1) ∧ D.K q = 3 then la q + 1 - fi q else 0) ≤ m
    split
    · rename_i h; have := hs q h.1; omega
    · omega
  refine ⟨fun p => mxN g (D.st p) (p + 1 - D.st p), fun f p w k hf h1 h2 hk => ?_, fun p => mxN_le _ (fun q _ _ => gle q)⟩
  have hPF := (hF.2.2 f hf).2.2.1 p h1 h2
  obtain ⟨b1, b2⟩ := hF.pb hf h2
  obtain ⟨k1, k2, k3, _⟩ := contN.at _ _ _ w k hPF.2.1 hk
  have hst := hPF.1
  show cwt D p + mxN g (D.st k) (k + 1 - D.st k) ≤ mxN g (D.st p) (p + 1 - D.st p)
  by_cases c : D.K p = 3
  · have hp : g p = la p + 1 - fi p := by rw [hg]; show (if p < D.bP (D.fc + 1) ∧ D.K p = 3 then la p + 1 - fi p else 0) = _; rw [if_pos ⟨b1, c⟩]
    have hat := mxN_at (g := g) (s := D.st p) (q := p) (p + 1 - D.st p) hst.2.2.2 (by omega)
    have hw : w < (D.kd p).length := (List.getElem?_eq_some_iff.mp hk).1
    have ec : cwt D p = 2 * (D.kd p).length + 1 := by unfold cwt; rw [if_pos c]
    have hk0 := hc f p w k k hf h1 h2 c hk k2 (Nat.le_refl _)
    have hsk := hs k (by omega)
    have hle : mxN g (D.st k) (k + 1 - D.st k) ≤ la p + 1 - fi p - (2 * (D.kd p).length + 1) := mxN_le _ (fun q q1 q2 => by
      have hq := hc f p w k q hf h1 h2 c hk q1 (by omega)
      have hsq := hs q (by omega)
      rw [hg]
      show (if q < D.bP (D.fc + 1) ∧ D.K q = 3 then la q + 1 - fi q else 0) ≤ _
      split
      · omega
      · omega)
    omega
  · have ec : cwt D p = 0 := by unfold cwt; rw [if_neg c]
    rw [ec, Nat.zero_add]
    exact mxN_le _ (fun q q1 q2 => mxN_at _ (by omega) (by omega))
end WEIGHTS
