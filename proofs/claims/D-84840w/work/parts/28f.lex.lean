/-! LEXEMES: signs, one lexeme more -/
def swT (a : Nat) : Nat := if a = 40 then 24 else if a = 41 then 25 else if a = 44 then 26 else if a = 59 then 27 else if a = 43 then 30 else if a = 45 then 31 else if a = 42 then 32 else if a = 47 then 33 else if a = 37 then 34 else if a = 124 then 35 else 0
def swP (a : Nat) : Nat := if a = 40 then 200 else if a = 41 then 203 else if a = 44 then 206 else if a = 59 then 209 else if a = 43 then 212 else if a = 45 then 215 else if a = 42 then 218 else if a = 47 then 221 else if a = 37 then 224 else if a = 124 then 227 else 230
def sgK (a b : Nat) : Nat := if a = 61 ∨ a = 60 ∨ a = 58 then (if a = 61 ∧ b = 62 then 20 else if b = 61 ∧ ¬ a = 58 then (if a = 61 then 21 else 22) else if a = 58 then (if b = 58 then 23 else 0) else if a = 61 then 28 else 29) else swT a
theorem swP_ok : ∀ a, a < 256 → ((insP 297 110).bind fun q => tv_sw q.1 110 (i32 ((a : Nat) : Int))) = some (swP a) := by decide +kernel
section LEX5
variable {L : Nat} {xs : Nat → Int32} {c : Nat → Nat} {N : Nat} {σ τ : tvS}
theorem swT_run (d : Nat) (σ : tvS) (v0 v1 v2 v3 : Value) (a : Nat) : rn L xs (d + 1) 297 (swP a) [v0, v1, v2, v3] [] σ = some (.inl (some (.int (i32 (swT a)))), σ) := by
  unfold swP swT
  by_cases h40 : a = 40
  · rw [if_pos h40, if_pos h40, e297_200]; rfl
  rw [if_neg h40, if_neg h40]
  by_cases h41 : a = 41
  · rw [if_pos h41, if_pos h41, e297_203]; rfl
  rw [if_neg h41, if_neg h41]
  by_cases h44 : a = 44
  · rw [if_pos h44, if_pos h44, e297_206]; rfl
  rw [if_neg h44, if_neg h44]
  by_cases h59 : a = 59
  · rw [if_pos h59, if_pos h59, e297_209]; rfl
  rw [if_neg h59, if_neg h59]
  by_cases h43 : a = 43
  · rw [if_pos h43, if_pos h43, e297_212]; rfl
  rw [if_neg h43, if_neg h43]
  by_cases h45 : a = 45
  · rw [if_pos h45, if_pos h45, e297_215]; rfl
  rw [if_neg h45, if_neg h45]
  by_cases h42 : a = 42
  · rw [if_pos h42, if_pos h42, e297_218]; rfl
  rw [if_neg h42, if_neg h42]
  by_cases h47 : a = 47
  · rw [if_pos h47, if_pos h47, e297_221]; rfl
  rw [if_neg h47, if_neg h47]
  by_cases h37 : a = 37
  · rw [if_pos h37, if_pos h37, e297_224]; rfl
  rw [if_neg h37, if_neg h37]
  by_cases h124 : a = 124
  · rw [if_pos h124, if_pos h124, e297_227]; rfl
  rw [if_neg h124, if_neg h124]
  rw [e297_230]
  rfl
theorem msign_ok (h : TX c N σ τ) (d s : Nat) (hs : s < N) : rn L xs (d + 2) 297 0 [.ref 123, .int (i32 s), jv, jv] [] τ = some (.inl (some (.int (i32 (sgK (c s) (hh c N (s + 1)))))), τ) := by
  have hN := h.1
  have hc := h.2.2.2 s hs
  have ha : c s ≤ 255 := hc.2.1
  have hb := hh_le h (s + 1)
  rw [e297_0 (d + 1), c_in (by omega) (by omega) (by omega), i32_n1, bI_ok (sign_ok h d (s + 1) (by omega)), i32_ixn (by omega), hc.2.2.2]
  generalize c s = a at *
  generalize hh c N (s + 1) = b at *
  rw [m8_eq ha 61 (by decide), m8_eq ha 60 (by decide), m8_ne ha 58 (by decide), cnd_not]
  have e1 : ∀ {x y : tvR}, cond (decide (a = 61)) x (cond (decide (a = 60)) x (cond (decide (a = 58)) x y)) = if a = 61 ∨ a = 60 ∨ a = 58 then x else y := by
    intro x y
    by_cases p1 : a = 61
    · rw [decide_eq_true p1, if_pos (Or.inl p1)]; rfl
    · by_cases p2 : a = 60
      · rw [decide_eq_false p1, decide_eq_true p2, if_pos (Or.inr (Or.inl p2))]; rfl
      · by_cases p3 : a = 58
        · rw [decide_eq_false p1, decide_eq_false p2, decide_eq_true p3, if_pos (Or.inr (Or.inr p3))]; rfl
        · rw [decide_eq_false p1, decide_eq_false p2, decide_eq_false p3, if_neg (by omega)]; rfl
  rw [e1]
  unfold sgK
  by_cases q : a = 61 ∨ a = 60 ∨ a = 58
  · rw [if_pos q, if_pos q, e297_33 (d + 1), m8_ne ha 61 (by decide), m8_ne hb 62 (by decide), cnd_not, cnd_not]
    by_cases q1 : a = 61 ∧ b = 62
    · rw [if_pos q1, decide_eq_true q1.1, decide_eq_true q1.2]; rfl
    · have e2 : ∀ {x y : tvR}, cond (decide (a = 61)) (cond (decide (b = 62)) x y) y = y := by
        intro x y
        by_cases p1 : a = 61
        · rw [decide_eq_true p1, cond_true, decide_eq_false (fun p => q1 ⟨p1, p⟩), cond_false]
        · rw [decide_eq_false p1, cond_false]
      rw [if_neg q1, e2, e297_48 (d + 1), m8_ne hb 61 (by decide), m8_eq ha 58 (by decide), m8_ne ha 61 (by decide), cnd_not, cnd_not]
      by_cases q2 : b = 61 ∧ ¬ a = 58
      · rw [if_pos q2, decide_eq_true q2.1, decide_eq_false q2.2, cond_true, cond_false]
        by_cases q3 : a = 61
        · rw [if_pos q3, decide_eq_true q3, cond_true, e297_73 (d + 1)]; rfl
        · rw [if_neg q3, decide_eq_false q3, cond_false, e297_71 (d + 1), e297_73 (d + 1)]; rfl
      · have e3 : ∀ {x y : tvR}, cond (decide (b = 61)) (cond (decide (a = 58)) y x) y = y := by
          intro x y
          by_cases p1 : b = 61
          · rw [decide_eq_true p1, cond_true, decide_eq_true (Classical.byContradiction fun p => q2 ⟨p1, p⟩), cond_true]
          · rw [decide_eq_false p1, cond_false]
        rw [if_neg q2, e3, e297_74 (d + 1), m8_ne ha 58 (by decide), m8_ne hb 58 (by decide), cnd_not, cnd_not]
        by_cases q4 : a = 58
        · rw [if_pos q4, decide_eq_true q4, cond_true]
          by_cases q5 : b = 58
          · rw [if_pos q5, decide_eq_true q5, cond_true, e297_108 (d + 1)]; rfl
          · rw [if_neg q5, decide_eq_false q5, cond_false, e297_91 (d + 1), e297_108 (d + 1)]; rfl
        · rw [if_neg q4, decide_eq_false q4, cond_false, e297_95 (d + 1), m8_ne ha 61 (by decide), cnd_not]
          by_cases q6 : a = 61
          · rw [if_pos q6, decide_eq_true q6, cond_true, e297_108 (d + 1)]; rfl
          · rw [if_neg q6, decide_eq_false q6, cond_false, e297_106 (d + 1), e297_108 (d + 1)]; rfl
  · rw [if_neg q, if_neg q, e297_109 (d + 1), swk_of (swP_ok a (by omega))]
    exact swT_run (d + 1) τ _ _ _ _ a
/-- one lexeme more, of the component and of the model -/
def cAdd (σ : tvS) (m : Nat) (κ s e : Int32) : tvS := wr (wr (wr (wr σ 10 m κ) 13 m s) 14 m e) 6 9 (i32 (m + 1 : Nat))
theorem cadd_ok {m : Nat} (hm : rd σ 6 9 = i32 m) (hlt : m < 3001) (d : Nat) (κ s e : Int32) : rn L xs (d + 1) 53 0 [.ref 6, .int κ, .int s, .int e] [] σ = some (.inl none, cAdd σ m κ s e) := by
  rw [e53_0, hm, c_in (by omega) (by omega) (by omega), c_in (by omega) (by omega) (by omega), c_in (by omega) (by omega) (by omega), i32_ixn (by omega), i32_n1]
  rfl
def mAdd (τ : tvS) (m : Nat) (μ s n w : Int32) : tvS := wr (wr (wr (wr (wr τ 126 m μ) 127 m s) 128 m n) 129 m w) 123 8 (i32 (m + 1 : Nat))
theorem madd_ok {m : Nat} (hm : rd τ 123 8 = i32 m) (hlt : m < 3002) (d : Nat) (μ s n w : Int32) : rn L xs (d + 1) 294 0 [.ref 123, .int μ, .int s, .int n, .int w] [] τ = some (.inl none, mAdd τ m μ s n w) := by
  rw [e294_0, hm, c_in (by omega) (by omega) (by omega), c_in (by omega) (by omega) (by omega), c_in (by omega) (by omega) (by omega), c_in (by omega) (by omega) (by omega), i32_ixn (by omega), i32_n1]
  rfl
theorem csign_ok (h : TX c N σ τ) {m : Nat} (hm : rd σ 6 9 = i32 m) (hlt : m < 3001) (d s : Nat) (hs : s < N) : rn L xs (d + 2) 55 0 [.ref 6, .int (i32 s), jv, jv, jv, jv, jv] [] σ =
    if sg2 (c s) (hh c N (s + 1)) = 0 ∧ sg1 (c s) = false then some (.inl (some (.int (i32 (-1)))), σ) else
    some (.inl (some (.int (i32 (s + (if sg2 (c s) (hh c N (s + 1)) = 0 then 1 else 2) : Nat)))), cAdd (wr σ 11 m (if sg2 (c s) (hh c N (s + 1)) = 0 then by8 (i32 (c s)) else i32 (sg2 (c s) (hh c N (s + 1))))) m 3 (i32 s) (i32 (s + (if sg2 (c s) (hh c N (s + 1)) = 0 then 1 else 2) : Nat))) := by
  have hN := h.1
  have hc := h.2.2.2 s hs
  have hhs : hh c N s = c s := by unfold hh; rw [if_pos hs]
  obtain ⟨w3, w4, w5, w6, e1⟩ := csign_two (L := L) (xs := xs) h d s (by omega)
  rw [hhs] at e1
  obtain ⟨u3, e2⟩ := csign_one (L := L) (xs := xs) (a := c s) hc.2.1 (d + 1) s (sg2 (c s) (hh c N (s + 1))) σ w3 w4 w5 w6
  rw [e1, e2, e55_166 (d + 1)]
  have ht : sg2 (c s) (hh c N (s + 1)) ≤ 259 := by unfold sg2; split <;> (try split) <;> (try split) <;> (try split) <;> omega
  generalize sg2 (c s) (hh c N (s + 1)) = two at *
  rw [c1_ne (by omega) (by omega), c1_ne_bN]
  have hm2 : ∀ v, rd (wr σ 11 m v) 6 9 = i32 m := fun v => by rw [wr_nek (by decide)]; exact hm
  by_cases q : two = 0
  · rw [c_f (by omega)]
    cases e3 : sg1 (c s) with
    | false =>
      rw [if_pos ⟨q, rfl⟩]
      rfl
    | true =>
      rw [cond_true, if_neg (fun p => by cases p.2), if_pos q, if_pos q, e55_180 (d + 1), c1_le (by omega) (by omega), c_t (by omega), e55_191 (d + 1), e55_194 (d + 1), c1_le (by omega) (by omega), c_t (by omega), hm, e55_214 (d + 1), e55_215 (d + 1), c_in (by omega) (by omega) (by omega), i32_ixn (by omega), i32_n1, bV_ok (cadd_ok (hm2 _) hlt d _ _ _)]
  · rw [c_t (by omega), if_neg (fun p => q p.1), if_neg q, if_neg q, e55_180 (d + 1), c1_le (by omega) (by omega), c_f (by omega), e55_194 (d + 1), c1_le (by omega) (by omega), c_f (by omega), hm, e55_215 (d + 1), c_in (by omega) (by omega) (by omega), i32_ixn (by omega), show (2 : Int32) = i32 ((2 : Nat) : Int) from rfl, i32_nn, bV_ok (cadd_ok (hm2 _) hlt d _ _ _)]
end LEX5
