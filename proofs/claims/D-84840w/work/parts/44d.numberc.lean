/-! REGIONS, THE COMPONENT: the number of a type -/
section NUMC
variable {L : Nat} {xs : Nat → Int32} {σ σ' : tvS}
/-- a function's boxes so far -/
def BOX (f fst cnt : Nat) (bx : Nat → Nat) (σ : tvS) : Prop := rd σ 79 f = i32 (fst : Int) ∧ rd σ 80 f = i32 (cnt : Int) ∧ fst + cnt ≤ ln σ 81 ∧ ln σ 81 ≤ 2048 ∧ ∀ i, i < cnt → rd σ 81 (fst + i) = i32 (bx i : Int)
theorem BOX.W {f fst cnt : Nat} {bx : Nat → Nat} (h : BOX f fst cnt bx σ) (w : frW [52] σ σ') : BOX f fst cnt bx σ' :=
  ⟨(w.1 79 rfl f).trans h.1, (w.1 80 rfl f).trans h.2.1, by rw [w.ln]; exact h.2.2.1, by rw [w.ln]; exact h.2.2.2.1, fun i hi => (w.1 81 rfl _).trans (h.2.2.2.2 i hi)⟩
/-- which of the boxes, or none -/
def bxI (c : Nat → Nat) (bx : Nat → Nat) (t cnt : Nat) (res : Int32) : Prop := (res = i32 (-1) ∧ ∀ i, i < cnt → c (bx i) ≠ t) ∨ ∃ i : Nat, i < cnt ∧ res = i32 ((i + 1 : Nat) : Int) ∧ c (bx i) = t ∧ ∀ k, k < i → c (bx k) ≠ t
theorem number_loop {K1 K2 N f fst cnt t : Nat} {C : tG} {c : Nat → Nat} {bx : Nat → Nat} (hf : f < 21) (hb : ∀ i, i < cnt → bx i < N) (hN : N ≤ 1000000) (ht : t < N) (d : Nat) : ∀ (j k : Nat) (σ : tvS) (v2 : Value), k + j = cnt → TC N C c σ → ROOM K1 K2 σ → BOX f fst cnt bx σ → (∀ i, i < k → c (bx i) ≠ t) →
    ∃ (σ' : tvS) (res : Int32), rn L xs (d + 2) 167 12 [.ref 74, .int (i32 (f : Int)), v2, .int (i32 (t : Int)), .int (i32 ((k + 1 : Nat) : Int))] [] σ = some (.inl (some (.int res)), σ') ∧ bxI c bx t cnt res ∧ TC N C c σ' ∧ ROOM K1 K2 σ' ∧ frW [52] σ σ' := by
  intro j
  induction j with
  | zero =>
    intro k σ v2 e hT hR hB hk
    have e : k = cnt := by omega
    subst e
    have hl := hB.2.2
    refine ⟨σ, i32 (-1), ?_, .inl ⟨rfl, hk⟩, hT, hR, frW.refl⟩
    rw [e167_12 (d + 1), c_in (by omega) (by omega) (by omega), i32_ixn (by omega), hB.2.1, c2_gt (by omega) (by omega) (by omega) (by omega), c_t (by omega), e167_50]
    rfl
  | succ j ih =>
    intro k σ v2 e hT hR hB hk
    obtain ⟨b1, b2, b3, b4, b5⟩ := id hB
    have e168 : rn L xs (d + 1) 168 0 [.ref 74, .int (i32 (f : Int)), .int (i32 ((k + 1 : Nat) : Int))] [] σ = some (.inl (some (.int (i32 (bx k : Int)))), σ) := by
      have e1 : i32 (fst : Int) + i32 ((k + 1 : Nat) : Int) - 1 = i32 ((fst + k : Nat) : Int) := by
        rw [i32_add, show (1 : Int32) = i32 1 from rfl, i32_sub]; congr 1; omega
      rw [e168_0, c_in (by omega) (by omega) (by omega), i32_ixn (by omega), b1, e1, c_in (by omega) (by omega) (by omega), i32_ixn (by omega), b5 k (by omega)]
    obtain ⟨s1, a1, a2, a3, a4⟩ := find_C (L := L) (xs := xs) hT hR (hb k (by omega)) d jv jv jv
    have hck := hT.rlt (hb k (by omega))
    have hst : rn L xs (d + 2) 167 12 [.ref 74, .int (i32 (f : Int)), v2, .int (i32 (t : Int)), .int (i32 ((k + 1 : Nat) : Int))] [] σ = cond (pv_c2 .ne (i32 (c (bx k) : Int)) (i32 (t : Int))) (rn L xs (d + 2) 167 44 [.ref 74, .int (i32 (f : Int)), (dj (dj v2)), .int (i32 (t : Int)), .int (i32 ((k + 1 : Nat) : Int))] [] s1) (some (.inl (some (.int (i32 ((k + 1 : Nat) : Int)))), s1)) := by
      rw [e167_12 (d + 1), c_in (by omega) (by omega) (by omega), i32_ixn (by omega), b2, c2_gt (by omega) (by omega) (by omega) (by omega), c_f (by omega), bI_ok e168, bI_ok a1]
    rw [hst, c2_ne (by omega) (by omega) (by omega) (by omega)]
    by_cases q : c (bx k) = t
    · rw [c_f (by omega)]
      exact ⟨s1, _, rfl, .inr ⟨k, by omega, rfl, q, hk⟩, a2, a3, a4⟩
    · rw [c_t (by omega), e167_44 (d + 1), i32_up]
      obtain ⟨σ', res, z1, z2, z3, z4, z5⟩ := ih (k + 1) s1 (dj (dj v2)) (by omega) a2 a3 (hB.W a4) (fun i hi => by
        by_cases ei : i = k
        · rw [ei]; exact q
        · exact hk i (by omega))
      exact ⟨σ', res, z1, z2, z3, z4, a4.trans z5⟩
theorem number_c {K1 K2 N f fst cnt x : Nat} {C : tG} {c : Nat → Nat} {bx : Nat → Nat} (hf : f < 21) (hb : ∀ i, i < cnt → bx i < N) (hN : N ≤ 1000000) (hx : x < N) (hT : TC N C c σ) (hR : ROOM K1 K2 σ) (hB : BOX f fst cnt bx σ) (d : Nat) (v3 v4 : Value) :
    ∃ (σ' : tvS) (res : Int32), rn L xs (d + 2) 167 0 [.ref 74, .int (i32 (f : Int)), .int (i32 (x : Int)), v3, v4] [] σ = some (.inl (some (.int res)), σ') ∧ bxI c bx (c x) cnt res ∧ TC N C c σ' ∧ ROOM K1 K2 σ' ∧ frW [52] σ σ' := by
  obtain ⟨s1, a1, a2, a3, a4⟩ := find_C (L := L) (xs := xs) hT hR hx d jv jv jv
  obtain ⟨σ', res, z1, z2, z3, z4, z5⟩ := number_loop (L := L) (xs := xs) (f := f) (fst := fst) (cnt := cnt) hf hb hN (hT.rlt hx) d cnt 0 s1 (.int (i32 (x : Int))) (by omega) a2 a3 (hB.W a4) (fun i hi => absurd hi (Nat.not_lt_zero _))
  refine ⟨σ', res, ?_, z2, z3, z4, a4.trans z5⟩
  rw [e167_0 (d + 1), bI_ok a1]
  exact z1
end NUMC
