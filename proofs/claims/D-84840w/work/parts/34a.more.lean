/-! TYPES OF THE COMPONENT: tables in the midst of a copy; one more type -/
section TQ
variable {L : Nat} {xs : Nat → Int32} {σ σ' : tvS}
/-- the tables; K: of which the parts are known -/
def TCq (K : Nat → Prop) (N : Nat) (G : tG) (r : Nat → Nat) (σ : tvS) : Prop :=
  rd σ 50 8 = i32 (N : Int) ∧ 0 < N ∧ N ≤ ln σ 51 ∧ (∀ j, 51 ≤ j → j ≤ 58 → ln σ j = ln σ 51) ∧ LNK N r σ ∧ (∀ x, N ≤ x → r x = x ∧ G.1 x = 0) ∧
  (∀ x, x < N → rd σ 51 x = i32 (G.1 x : Int) ∧ G.1 x ≤ 4 ∧ (2 ≤ G.1 x → K x → rd σ 53 x = i32 (G.2.1 x : Int) ∧ G.2.1 x < N ∧ (G.1 x ≠ 3 → rd σ 54 x = i32 (G.2.2 x : Int) ∧ G.2.2 x < N))) ∧
  (∀ x, G.1 x = 1 ↔ x = 0)
theorem TC.q {N : Nat} {G : tG} {r : Nat → Nat} (K : Nat → Prop) (h : TC N G r σ) : TCq K N G r σ := by
  obtain ⟨a1, a2, a3, a4, a5, a6, a7, a8⟩ := h
  exact ⟨a1, a2, a3, a4, a5, a6, fun x hx => ⟨(a7 x hx).1, (a7 x hx).2.1, fun h _ => (a7 x hx).2.2 h⟩, a8⟩
theorem TCq.all {K : Nat → Prop} {N : Nat} {G : tG} {r : Nat → Nat} (h : TCq K N G r σ) (hK : ∀ x, x < N → 2 ≤ G.1 x → K x) : TC N G r σ := by
  obtain ⟨a1, a2, a3, a4, a5, a6, a7, a8⟩ := h
  exact ⟨a1, a2, a3, a4, a5, a6, fun x hx => ⟨(a7 x hx).1, (a7 x hx).2.1, fun h => (a7 x hx).2.2 h (hK x hx h)⟩, a8⟩
theorem TCq.fr {K : Nat → Prop} {N : Nat} {G : tG} {r : Nat → Nat} {S T F : List Nat} (h : TCq K N G r σ) (g : frT S T F σ σ') (hF : inL F 8 = false) (hS : inL S 51 = false ∧ inL S 53 = false ∧ inL S 54 = false) (hT : (∀ j, 51 ≤ j → j ≤ 58 → inL T j = false)) (hr : LNK N r σ') : TCq K N G r σ' := by
  obtain ⟨a1, a2, a3, a4, a5, a6, a7, a8⟩ := h
  refine ⟨by rw [g.2 8 hF]; exact a1, a2, by rw [(g.1.2.2 51 (hT 51 (by omega) (by omega))).1]; exact a3, fun j h1 h2 => by rw [(g.1.2.2 j (hT j h1 h2)).1, (g.1.2.2 51 (hT 51 (by omega) (by omega))).1]; exact a4 j h1 h2, hr, a6, fun x hx => ?_, a8⟩
  rw [g.rd (j := 51) hS.1, g.rd (j := 53) hS.2.1, g.rd (j := 54) hS.2.2]
  exact a7 x hx
theorem TCq.T {K : Nat → Prop} {N : Nat} {G : tG} {r : Nat → Nat} {S T F : List Nat} (h : TCq K N G r σ) (g : frT S T F σ σ') (hF : inL F 8 = false) (hS : inL S 51 = false ∧ inL S 52 = false ∧ inL S 53 = false ∧ inL S 54 = false) (hT : (∀ j, 51 ≤ j → j ≤ 58 → inL T j = false)) : TCq K N G r σ' :=
  h.fr g hF ⟨hS.1, hS.2.2.1, hS.2.2.2⟩ hT (h.2.2.2.2.1.fr (fun i => g.1.1 52 hS.2.1 i))
theorem TCq.lt {K : Nat → Prop} {N : Nat} {G : tG} {r : Nat → Nat} {K1 K2 : Nat} (h : TCq K N G r σ) (hR : ROOM K1 K2 σ) : N ≤ 122880 := Nat.le_trans h.2.2.1 (hR.le (k := 51) (M := 122880) (by decide))
theorem TCq.len {K : Nat → Prop} {N : Nat} {G : tG} {r : Nat → Nat} {K1 K2 : Nat} (h : TCq K N G r σ) (hR : ROOM K1 K2 σ) {j : Nat} (h1 : 51 ≤ j) (h2 : j ≤ 58) : N ≤ ln σ j ∧ ln σ j ≤ 122880 := by
  rw [h.2.2.2.1 j h1 h2]; exact ⟨h.2.2.1, hR.le (k := 51) (M := 122880) (by decide)⟩
theorem TCq.rlt {K : Nat → Prop} {N : Nat} {G : tG} {r : Nat → Nat} (h : TCq K N G r σ) {x : Nat} (hx : x < N) : r x < N := by
  obtain ⟨rk, h⟩ := h.2.2.2.2.1
  exact (h x hx).1
theorem find_Q {K : Nat → Prop} {N : Nat} {G : tG} {r : Nat → Nat} {K1 K2 : Nat} (h : TCq K N G r σ) (hR : ROOM K1 K2 σ) {x : Nat} (hx : x < N) (d : Nat) (v2 v3 v4 : Value) :
    ∃ σ', rn L xs (d + 1) 84 0 [.ref 50, .int (i32 x), v2, v3, v4] [] σ = some (.inl (some (.int (i32 (r x)))), σ') ∧ TCq K N G r σ' ∧ ROOM K1 K2 σ' ∧ frW [52] σ σ' := by
  have l := h.len hR (j := 52) (by omega) (by omega)
  obtain ⟨σ', a, b, c⟩ := find_c (L := L) (xs := xs) h.2.2.2.2.1 l.1 (by omega) hx d v2 v3 v4
  exact ⟨σ', a, h.fr (c.T [] [] rfl) rfl ⟨rfl, rfl, rfl⟩ (fun _ _ _ => rfl) b, hR.fr c, c⟩
theorem TCq.rr {K : Nat → Prop} {N : Nat} {G : tG} {r : Nat → Nat} {K1 K2 : Nat} (h : TCq K N G r σ) (hR : ROOM K1 K2 σ) {x : Nat} (hx : x < N) : r (r x) = r x := by
  have l := h.len hR (j := 52) (by omega) (by omega)
  exact (h.2.2.2.2.1.idem l.1 (by omega) hx).2.1
theorem kind_c {K : Nat → Prop} {N : Nat} {G : tG} {r : Nat → Nat} {K1 K2 : Nat} (h : TCq K N G r σ) (hR : ROOM K1 K2 σ) {x : Nat} (hx : x < N) (d : Nat) :
    ∃ σ', rn L xs (d + 2) 89 0 [.ref 50, .int (i32 x)] [] σ = some (.inl (some (.int (i32 (G.1 (r x) : Int)))), σ') ∧ TCq K N G r σ' ∧ ROOM K1 K2 σ' ∧ frW [52] σ σ' := by
  obtain ⟨s1, f1, T1, R1, w1⟩ := find_Q (L := L) (xs := xs) h hR hx d jv jv jv
  have hr := h.rlt hx
  have l := T1.len R1 (j := 51) (by omega) (by omega)
  refine ⟨s1, ?_, T1, R1, w1⟩
  rw [e89_0 (d + 1), bI_ok f1, w1.rh 51, Nat.beq_refl, Bool.and_true, cond_true, c_in (by omega) (by omega) (by omega), i32_ixn (by omega), (T1.2.2.2.2.2.2.1 (r x) hr).1]
theorem first_c {K : Nat → Prop} {N : Nat} {G : tG} {r : Nat → Nat} {K1 K2 : Nat} (h : TCq K N G r σ) (hR : ROOM K1 K2 σ) {x : Nat} (hx : x < N) (hk : 2 ≤ G.1 (r x)) (hK : K (r x)) (d : Nat) :
    ∃ σ', rn L xs (d + 2) 91 0 [.ref 50, .int (i32 x)] [] σ = some (.inl (some (.int (i32 (G.2.1 (r x) : Int)))), σ') ∧ TCq K N G r σ' ∧ ROOM K1 K2 σ' ∧ frW [52] σ σ' := by
  obtain ⟨s1, f1, T1, R1, w1⟩ := find_Q (L := L) (xs := xs) h hR hx d jv jv jv
  have hr := h.rlt hx
  have l := T1.len R1 (j := 53) (by omega) (by omega)
  refine ⟨s1, ?_, T1, R1, w1⟩
  rw [e91_0 (d + 1), bI_ok f1, w1.rh 53, Nat.beq_refl, Bool.and_true, cond_true, c_in (by omega) (by omega) (by omega), i32_ixn (by omega), ((T1.2.2.2.2.2.2.1 (r x) hr).2.2 hk hK).1]
theorem second_c {K : Nat → Prop} {N : Nat} {G : tG} {r : Nat → Nat} {K1 K2 : Nat} (h : TCq K N G r σ) (hR : ROOM K1 K2 σ) {x : Nat} (hx : x < N) (hk : 2 ≤ G.1 (r x)) (hk3 : G.1 (r x) ≠ 3) (hK : K (r x)) (d : Nat) :
    ∃ σ', rn L xs (d + 2) 92 0 [.ref 50, .int (i32 x)] [] σ = some (.inl (some (.int (i32 (G.2.2 (r x) : Int)))), σ') ∧ TCq K N G r σ' ∧ ROOM K1 K2 σ' ∧ frW [52] σ σ' := by
  obtain ⟨s1, f1, T1, R1, w1⟩ := find_Q (L := L) (xs := xs) h hR hx d jv jv jv
  have hr := h.rlt hx
  have l := T1.len R1 (j := 54) (by omega) (by omega)
  refine ⟨s1, ?_, T1, R1, w1⟩
  rw [e92_0 (d + 1), bI_ok f1, w1.rh 54, Nat.beq_refl, Bool.and_true, cond_true, c_in (by omega) (by omega) (by omega), i32_ixn (by omega), (((T1.2.2.2.2.2.2.1 (r x) hr).2.2 hk hK).2.2 hk3).1]
/-- one more type -/
def gAdd (G : tG) (N k a b : Nat) : tG := (fun x => if x = N then k else G.1 x, fun x => if x = N then a else G.2.1 x, fun x => if x = N then b else G.2.2 x)
def gro8 : List Nat := [51, 52, 53, 54, 55, 56, 57, 58]
/-- room for one more is made, if there is none -/
theorem grow_c {N M : Nat} {K1 K2 : Nat} (h8 : rd σ 50 8 = i32 (N : Int)) (hM : M = N) (hl : ∀ j, 51 ≤ j → j ≤ 58 → ln σ j = M) (hR : ROOM K1 K2 σ) (hN : N < 122880) (d : Nat) (v1 : Value) :
    ∃ σ', rn L xs (d + 1) 80 0 [.ref 50, v1] [] σ = some (.inl none, σ') ∧ ROOM K1 K2 σ' ∧ (∀ j, 51 ≤ j → j ≤ 58 → ln σ' j = 2 * N) ∧ (∀ j i, i < N ∨ inL gro8 j = false → rd σ' j i = rd σ j i) ∧ frG gro8 gro8 σ σ' := by
  subst hM
  have e2 : (2 : Int32) * rd σ 50 8 = i32 ((2 * M : Nat) : Int) := by rw [h8, show (2 : Int32) = i32 2 from rfl, i32_mul]; congr 1
  have hi : ix (i32 ((2 * M : Nat) : Int)) = 2 * M := i32_ixn (by omega)
  have step : ∀ (s : tvS) (k : Nat), (k, 122880) ∈ gro → ROOM K1 K2 s → ln s k = M → gwOK s k (i32 ((2 * M : Nat) : Int)) = true ∧ ROOM K1 K2 (gw s k (2 * M)) := by
    intro s k hk hr hlk
    have g := hr.grow hk (by omega) (by decide)
    rw [hlk] at g
    exact ⟨g.1, g.2.1⟩
  have l1 := step σ 51 (by decide) hR (hl 51 (by omega) (by omega))
  have l2 := step (gw σ 51 (2 * M)) 52 (by decide) l1.2 (hl 52 (by omega) (by omega))
  have l3 := step (gw (gw σ 51 (2 * M)) 52 (2 * M)) 53 (by decide) l2.2 (hl 53 (by omega) (by omega))
  have l4 := step (gw (gw (gw σ 51 (2 * M)) 52 (2 * M)) 53 (2 * M)) 54 (by decide) l3.2 (hl 54 (by omega) (by omega))
  have l5 := step (gw (gw (gw (gw σ 51 (2 * M)) 52 (2 * M)) 53 (2 * M)) 54 (2 * M)) 55 (by decide) l4.2 (hl 55 (by omega) (by omega))
  have l6 := step (gw (gw (gw (gw (gw σ 51 (2 * M)) 52 (2 * M)) 53 (2 * M)) 54 (2 * M)) 55 (2 * M)) 56 (by decide) l5.2 (hl 56 (by omega) (by omega))
  have l7 := step (gw (gw (gw (gw (gw (gw σ 51 (2 * M)) 52 (2 * M)) 53 (2 * M)) 54 (2 * M)) 55 (2 * M)) 56 (2 * M)) 57 (by decide) l6.2 (hl 57 (by omega) (by omega))
  have l8 := step (gw (gw (gw (gw (gw (gw (gw σ 51 (2 * M)) 52 (2 * M)) 53 (2 * M)) 54 (2 * M)) 55 (2 * M)) 56 (2 * M)) 57 (2 * M)) 58 (by decide) l7.2 (hl 58 (by omega) (by omega))
  refine ⟨_, by rw [e80_0, e2, l1.1, cond_true, hi, e80_19, l2.1, cond_true, hi, e80_31, l3.1, cond_true, hi, e80_43, l4.1, cond_true, hi, e80_55, l5.1, cond_true, hi, e80_67, l6.1, cond_true, hi, e80_79, l7.1, cond_true, hi, e80_91, l8.1, cond_true, hi, e80_103], l8.2, ?_, ?_, ?_⟩
  · intro j h1 h2
    have : j = 51 ∨ j = 52 ∨ j = 53 ∨ j = 54 ∨ j = 55 ∨ j = 56 ∨ j = 57 ∨ j = 58 := by omega
    rcases this with h | h | h | h | h | h | h | h <;> subst h <;> rfl
  · intro j i hji
    have one : ∀ (s : tvS) (k : Nat), inL gro8 k = true → M ≤ ln s k → rd (gw s k (2 * M)) j i = rd s j i := by
      intro s k hk hlk
      rw [rd_gw]
      by_cases e : j = k
      · rw [if_pos e]
        rcases hji with q | q
        · rw [if_pos (by omega), e]
        · rw [e, hk] at q; cases q
      · rw [if_neg e]
    have hh : ∀ j, 51 ≤ j → j ≤ 58 → M ≤ ln σ j := fun j h1 h2 => by rw [hl j h1 h2]; exact Nat.le_refl _
    refine (one _ 58 rfl ?_).trans ((one _ 57 rfl ?_).trans ((one _ 56 rfl ?_).trans ((one _ 55 rfl ?_).trans ((one _ 54 rfl ?_).trans ((one _ 53 rfl ?_).trans ((one _ 52 rfl ?_).trans (one _ 51 rfl ?_)))))))
    · exact hh 58 (by omega) (by omega)
    · exact hh 57 (by omega) (by omega)
    · exact hh 56 (by omega) (by omega)
    · exact hh 55 (by omega) (by omega)
    · exact hh 54 (by omega) (by omega)
    · exact hh 53 (by omega) (by omega)
    · exact hh 52 (by omega) (by omega)
    · exact hh 51 (by omega) (by omega)
  · exact (frG_gw rfl rfl).trans ((frG_gw rfl rfl).trans ((frG_gw rfl rfl).trans ((frG_gw rfl rfl).trans ((frG_gw rfl rfl).trans ((frG_gw rfl rfl).trans ((frG_gw rfl rfl).trans (frG_gw rfl rfl)))))))
end TQ
