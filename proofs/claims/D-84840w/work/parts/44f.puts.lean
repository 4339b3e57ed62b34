/-! REGIONS, THE COMPONENT: what a part puts -/
section PUTSC
variable {L : Nat} {xs : Nat → Int32} {σ σ' : tvS}
/-- more is put -/
def QPx (n : Nat) (pe : Nat → Nat) (l : List Nat) (pe' : Nat → Nat) : Prop := (∀ i, i < n → pe' i = pe i) ∧ ∀ i x : Nat, l[i]? = some x → pe' (n + i) = x
theorem frQ.refl : frQ σ σ := ⟨frG.refl, fun _ _ => rfl⟩
theorem frQ.rd (h : frQ σ σ') {j : Nat} (hj : inL [74, 75, 76] j = false) (i : Nat) : rd σ' j i = rd σ j i := h.1.1 j hj i
theorem QPx.cons {n v : Nat} {pe pe' : Nat → Nat} {l : List Nat} (h : QPx (n + 1) (upN pe n v) l pe') : QPx n pe (v :: l) pe' := by
  obtain ⟨h1, h2⟩ := h
  refine ⟨fun i hi => ?_, fun i x hx => ?_⟩
  · rw [h1 i (by omega)]; unfold upN; rw [if_neg (by omega)]
  · cases i with
    | zero =>
      have hx : v = x := Option.some.inj hx
      show pe' n = x
      rw [h1 n (by omega)]; unfold upN; rw [if_pos rfl]; exact hx
    | succ i =>
      have hx : l[i]? = some x := hx
      have := h2 i x hx
      rw [show n + (i + 1) = n + 1 + i by omega]; exact this
/-- the regions of a call's copy -/
theorem handed_loop {K1 K2 p g kk ng n0 : Nat} {ce : Nat → Nat} (hp : p < 4101) (hg : g < 21) (h27 : rd σ 27 p = i32 (g : Int)) (h72 : rd σ 72 g = i32 (ng : Int)) (h44 : rd σ 44 g = i32 (kk : Int)) (hkk : kk ≤ 5) (hng : ng ≤ 64) (h69 : rd σ 69 p = i32 (n0 : Int)) (hln : n0 + (kk + 1 + ng) ≤ ln σ 70) (hl70 : ln σ 70 ≤ 32768) (h70 : ∀ i, i < kk + 1 + ng → rd σ 70 (n0 + i) = i32 (ce i : Int)) (d : Nat) : ∀ (j k n : Nat) (pe : Nat → Nat) (s : tvS) (v2 v3 : Value), k + j = ng → ROOM K1 K2 s → QP n pe s → frQ σ s → n + j ≤ 32768 →
    ∃ (σ' : tvS) (pe' : Nat → Nat), rn L xs (d + 2) 164 61 [.ref 74, .int (i32 (p : Int)), v2, v3, .int (i32 (k : Int))] [] s = some (.inl none, σ') ∧ ROOM K1 K2 σ' ∧ QP (n + j) pe' σ' ∧ QPx n pe ((List.range j).map fun i => ce (kk + 1 + k + i)) pe' ∧ frQ σ σ' := by
  intro j
  induction j with
  | zero =>
    intro k n pe s v2 v3 e hR hQ hf hn
    refine ⟨s, pe, ?_, hR, hQ, ⟨fun _ _ => rfl, fun i x hx => by simp at hx⟩, hf⟩
    have e154 : rn L xs (d + 1) 154 0 [.ref 65, .int (i32 (g : Int))] [] s = some (.inl (some (.int (i32 (ng : Int)))), s) := by
      rw [e154_0, c_in (by omega) (by omega) (by omega), i32_ixn (by omega), hf.rd (j := 72) rfl, h72]
    rw [e164_61 (d + 1), c_in (by omega) (by omega) (by omega), i32_ixn (by omega), hf.rd (j := 27) rfl, h27, bI_ok e154, c2_ge (by omega) (by omega) (by omega) (by omega), c_t (by omega), e164_102]
  | succ j ih =>
    intro k n pe s v2 v3 e hR hQ hf hn
    have e154 : rn L xs (d + 1) 154 0 [.ref 65, .int (i32 (g : Int))] [] s = some (.inl (some (.int (i32 (ng : Int)))), s) := by
      rw [e154_0, c_in (by omega) (by omega) (by omega), i32_ixn (by omega), hf.rd (j := 72) rfl, h72]
    have hl : ln s 70 = ln σ 70 := (hf.1.2.2 70 rfl).1
    have e155 : rn L xs (d + 1) 155 0 [.ref 65, .int (i32 (p : Int)), .int (i32 (k : Int))] [] s = some (.inl (some (.int (i32 (ce (kk + 1 + k) : Int)))), s) := by
      have e1 : i32 (n0 : Int) + i32 (kk : Int) + 1 + i32 (k : Int) = i32 ((n0 + (kk + 1 + k) : Nat) : Int) := by
        rw [i32_add, show (1 : Int32) = i32 1 from rfl, i32_add, i32_add]; congr 1; omega
      rw [e155_0, c_in (by omega) (by omega) (by omega), c_in (by omega) (by omega) (by omega), i32_ixn (by omega), hf.rd (j := 27) rfl, h27, c_in (by omega) (by omega) (by omega), i32_ixn (by omega), hf.rd (j := 69) rfl, h69, hf.rd (j := 44) rfl, h44, e1, c_in (by omega) (by omega) (by omega), i32_ixn (by omega), hf.rd (j := 70) rfl, h70 _ (by omega)]
    obtain ⟨s1, a1, a2, a3, a4⟩ := put_c (L := L) (xs := xs) hR hQ (by omega) (ce (kk + 1 + k)) d
    obtain ⟨σ', pe', z1, z2, z3, z4, z5⟩ := ih (k + 1) (n + 1) (upN pe n (ce (kk + 1 + k))) s1 (dj (dj (dj v2))) (jk (dj (dj (dj v3)))) (by omega) a3 a2 (hf.trans a4) (by omega)
    refine ⟨σ', pe', ?_, z2, by rw [show n + (j + 1) = n + 1 + j by omega]; exact z3, ?_, z5⟩
    · rw [e164_61 (d + 1), c_in (by omega) (by omega) (by omega), i32_ixn (by omega), hf.rd (j := 27) rfl, h27, bI_ok e154, c2_ge (by omega) (by omega) (by omega) (by omega), c_f (by omega), bI_ok e155, bV_ok a1, i32_up]
      exact z1
    · have : ((List.range (j + 1)).map fun i => ce (kk + 1 + k + i)) = ce (kk + 1 + k) :: ((List.range j).map fun i => ce (kk + 1 + (k + 1) + i)) := by
        rw [List.range_succ_eq_map, List.map_cons, List.map_map]
        refine congrArg (List.cons _) (List.map_congr_left (fun i _ => ?_))
        show ce (kk + 1 + k + (i + 1)) = ce (kk + 1 + (k + 1) + i)
        rw [show kk + 1 + k + (i + 1) = kk + 1 + (k + 1) + i by omega]
      rw [this]
      exact z4.cons
end PUTSC
