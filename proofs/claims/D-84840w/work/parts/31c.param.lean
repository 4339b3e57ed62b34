/-! READING: parameters -/
section PARAM
variable {L : Nat} {xs : Nat → Int32} {K1 K2 m : Nat} {μ : Nat → Nat} {g fc : Nat} {sc : List Nat} {fs fs' : List (Nat × Nat × List Nat)} {F D H n A P r r0 : Nat} {σ τ σ' τ' σ1 τ1 σ'' τ'' : tvS}
theorem CORE.lower {A1 V S : Nat} (h : CORE K1 K2 m μ g fc sc fs F A P r σ τ) (hA : A ≤ 4000) (hV : rd σ 15 19 = i32 V) (hV1 : V ≤ A1) (hV2 : V ≤ 4000) (hS : rd τ 123 42 = i32 S) (hS1 : S ≤ A1) (hS2 : S ≤ 4000) (hl : ∀ p, p < P → ix (rd σ 18 p) < A1) : CORE K1 K2 m μ g fc sc fs F A1 P r σ τ := by
  obtain ⟨V', S', C, q, cp, a1, a2, a3, ⟨a5, a6, a7, a8⟩, a9, a10, a12, a13, a14, a15, a16⟩ := h
  have e1 : V' = V := by
    have := (i32_inj (by omega) (by omega) (by omega) (by omega)).mp (a5.symm.trans hV)
    omega
  have e2 : S' = S := by
    have := (i32_inj (by omega) (by omega) (by omega) (by omega)).mp (a15.2.2.2.2.2.2.2.symm.trans hS)
    omega
  refine ⟨V', S', C, q, cp, a1, a2, a3, ⟨a5, a6, by omega, by omega⟩, a9, a10, a12, a13, a14, a15, fun p hp => ?_, a16.2⟩
  obtain ⟨κ, s, kids, g1, g2, g3, g4, g5, ⟨x, y, g6, g7, g8, g9, z⟩, g10⟩ := a16.1 p hp
  have := hl p hp
  rw [g7, i32_ixn (by omega)] at this
  exact ⟨κ, s, kids, g1, g2, g3, g4, g5, ⟨x, y, g6, g7, g8, this, z⟩, g10⟩
/-- what stays of functions, parts, variables, scopes ahead -/
def FR2 (g P V S : Nat) (σ τ σ' τ' : tvS) : Prop := (∀ j i, 43 ≤ j → j ≤ 49 → i ≠ g → rd σ' j i = rd σ j i) ∧ (∀ j i, 138 ≤ j ∧ j ≤ 144 ∨ j = 202 → i ≠ g → rd τ' j i = rd τ j i) ∧ (∀ p, p < P → (∀ j, 16 ≤ j ∧ j ≤ 18 ∨ 23 ≤ j ∧ j ≤ 28 → rd σ' j p = rd σ j p) ∧ rd τ' 160 p = rd τ 160 p) ∧ (∀ s, s ≤ S → ∀ j, j = 149 ∨ j = 150 → rd τ' j s = rd τ j s) ∧ (∀ v, v < V → rd σ' 31 v = rd σ 31 v ∧ rd σ' 32 v = rd σ 32 v ∧ rd σ' 33 v = rd σ 33 v) ∧ (∀ j i, j ≠ 29 → ¬ (j = 42 ∧ i = g) → rl σ' j i = rl σ j i)
theorem FR2.refl {V S : Nat} : FR2 g P V S σ τ σ τ := ⟨fun _ _ _ _ _ => rfl, fun _ _ _ _ => rfl, fun _ _ => ⟨fun _ _ => rfl, rfl⟩, fun _ _ _ _ => rfl, fun _ _ => ⟨rfl, rfl, rfl⟩, fun _ _ _ _ => rfl⟩
theorem FR2.trans {V S P1 V1 S1 : Nat} (h : FR2 g P V S σ τ σ' τ') (h' : FR2 g P1 V1 S1 σ' τ' σ'' τ'') (hP : P ≤ P1) (hV : V ≤ V1) (hS : S ≤ S1) : FR2 g P V S σ τ σ'' τ'' := by
  obtain ⟨a1, a2, a3, a4, a5, a6⟩ := h
  obtain ⟨b1, b2, b3, b4, b5, b6⟩ := h'
  exact ⟨fun j i h1 h2 h3 => (b1 j i h1 h2 h3).trans (a1 j i h1 h2 h3), fun j i h1 h2 => (b2 j i h1 h2).trans (a2 j i h1 h2), fun p hp => ⟨fun j hj => ((b3 p (by omega)).1 j hj).trans ((a3 p hp).1 j hj), (b3 p (by omega)).2.trans (a3 p hp).2⟩, fun s hs j hj => (b4 s (by omega) j hj).trans (a4 s hs j hj), fun v hv => ⟨(b5 v (by omega)).1.trans (a5 v hv).1, (b5 v (by omega)).2.1.trans (a5 v hv).2.1, (b5 v (by omega)).2.2.trans (a5 v hv).2.2⟩, fun j i h1 h2 => (b6 j i h1 h2).trans (a6 j i h1 h2)⟩
/-- in the midst of parameters -/
def PST (K1 K2 m : Nat) (μ : Nat → Nat) (g F P V0 S0 k A : Nat) (σ τ : tvS) : Prop := CORE K1 K2 m μ g (g + 1) (pls V0 k) [] F A P 0 (wr σ 44 g (i32 k)) τ ∧ (rd σ 62 3 = i32 A ∧ rd τ 123 17 = i32 A ∧ A ≤ m ∧ rd σ 62 11 = i32 (0 : Nat) ∧ 3 * F ≤ A ∧ P ≤ wch μ A) ∧ (k ≤ 5 ∧ rd σ 15 19 = i32 (V0 + k : Nat) ∧ V0 + k ≤ A ∧ rd τ 123 42 = i32 (S0 + k : Nat) ∧ S0 + k ≤ A) ∧ SLO τ ∧ (∀ p f : Nat, p < P → rd σ 16 p = i32 3 → f < ix (rd σ 15 38) → rd σ 27 p = i32 f → f ≠ g)
/-- what a sixth one leads to -/
def v5k (σ : tvS) (a A g fc : Nat) (l : List Nat) : Nat := if a ≠ 1 then 2 else if (l.find? fun v => decide (rl σ 29 v = rl σ 12 A)) ≠ none ∨ fIx (fun f => decide (rl σ 42 f = rl σ 12 A)) (min (g + 1) fc) 0 ≠ none then 3 else 6
theorem v5_vck {a : Nat} {l : List Nat} (hl : l.length ≠ 40) : v5k σ a A g fc l = 6 ∧ vck σ a A g fc l = 0 ∨ v5k σ a A g fc l = vck σ a A g fc l ∧ (vck σ a A g fc l = 2 ∧ a ≠ 1 ∨ vck σ a A g fc l = 3 ∧ a = 1 ∧ ((l.find? fun v => decide (rl σ 29 v = rl σ 12 A)) ≠ none ∨ fIx (fun f => decide (rl σ 42 f = rl σ 12 A)) (min (g + 1) fc) 0 ≠ none)) := by
  unfold v5k vck
  by_cases q1 : a ≠ 1
  · rw [if_pos q1, if_pos q1]; exact Or.inr ⟨rfl, Or.inl ⟨rfl, q1⟩⟩
  · rw [if_neg q1, if_neg q1]
    by_cases q2 : (l.find? fun v => decide (rl σ 29 v = rl σ 12 A)) ≠ none ∨ fIx (fun f => decide (rl σ 42 f = rl σ 12 A)) (min (g + 1) fc) 0 ≠ none
    · rw [if_pos q2, if_pos q2]; exact Or.inr ⟨rfl, Or.inr ⟨rfl, by omega, q2⟩⟩
    · rw [if_neg q2, if_neg q2, if_neg hl]; exact Or.inl ⟨rfl, rfl⟩
/-- a sixth parameter, the component -/
theorem par5_c {l : List Nat} (hLV : LV m σ τ) (hμ : mu τ = μ) (hA : A ≤ m) (h62 : rd σ 62 3 = i32 A) (hch : chC σ l (rd σ 62 5)) (hx : xnOK σ = true) (hfc : rd σ 15 38 = i32 fc) (hg : rd σ 62 7 = i32 g) (hfc2 : fc ≤ 20) (hg2 : g ≤ 20) (d : Nat) :
    rn L xs (d + 4) 115 0 [.ref 62, .int (i32 (5 : Nat))] [] σ = some (.inr (1016, (rm σ).1), cFlt σ (i32 (v5k σ (μ A) A g fc l)) (rd σ 13 A)) := by
  have hm := hLV.1
  have hfl : ∀ k : Int32, rn L xs (d + 3) 111 0 [.ref 62, .int k, .int (i32 A)] [] σ = some (.inr (1016, (rm σ).1), cFlt σ k (rd σ 13 A)) := fun k => cfail_ok hLV hA hx (d + 1) k
  rw [e115_0 (d + 3), show pv_c2 .ge (i32 ((5 : Nat) : Int)) 5 = true from rfl, cond_true, e115_14 (d + 3), h62, bI_ok (r := rn L xs (d + 3) 57 0 [.ref 6, .int (i32 A)] [] σ) (x := rd σ 10 A) (σ := σ) (by rw [e57_0, c_in (by omega) (by omega) (by omega), i32_ixn (by omega)]), ck_name hLV hA, hμ]
  unfold v5k
  by_cases q1 : μ A = 1
  · rw [decide_eq_true q1, cond_true, if_neg (show ¬ (μ A ≠ 1) from fun q => q q1), e115_38 (d + 3), h62, bL_ok (r := rn L xs (d + 3) 59 0 [.ref 6, .int (i32 A)] [] σ) (x := rl σ 12 A) (σ := σ) (by rw [e59_0, c_in (by omega) (by omega) (by omega), i32_ixn (by omega)]), bI_ok (cvar_ok (d + 2) (rl σ 12 A) hch)]
    have e90 : ∀ v1, rn L xs (d + 3 + 1) 115 90 [.ref 62, v1] [] σ = some (.inr (1016, (rm σ).1), cFlt σ 3 (rd σ 13 A)) := fun v1 => by
      rw [e115_90 (d + 3), h62, bV_ex (hfl 3)]; rfl
    cases hv : (l.find? fun v => decide (rl σ 29 v = rl σ 12 A)) with
    | some v =>
      have hv4 := chC.mem l _ hch v (List.mem_of_find?_eq_some hv)
      show cond (pv_c2 .ne (i32 (v : Int)) (i32 (-1))) _ _ = _
      rw [c2_ne (by omega) (by omega) (by omega) (by omega), c_t (by omega), e90, if_pos (Or.inl (by simp))]
      rfl
    | none =>
      show cond (pv_c2 .ne (i32 (-1)) (i32 (-1))) _ _ = _
      rw [c2_ne (by omega) (by omega) (by omega) (by omega), c_f (by omega), h62, bL_ok (r := rn L xs (d + 3) 59 0 [.ref 6, .int (i32 A)] [] σ) (x := rl σ 12 A) (σ := σ) (by rw [e59_0, c_in (by omega) (by omega) (by omega), i32_ixn (by omega)]), bI_ok (known_ok hfc hg hfc2 hg2 (d + 1)), bI_ok (cfun_ok (d + 2) (rl σ 12 A) (by omega))]
      cases hf : fIx (fun f => decide (rl σ 42 f = rl σ 12 A)) (min (g + 1) fc) 0 with
      | some f =>
        have hfl := fIx_lt _ _ _ hf
        show cond (pv_c2 .eq (i32 (f : Int)) (i32 (-1))) _ _ = _
        rw [c2_eq (by omega) (by omega) (by omega) (by omega), c_f (by omega), e90, if_pos (Or.inr (by simp))]
        rfl
      | none =>
        show cond (pv_c2 .eq (i32 (-1)) (i32 (-1))) _ _ = _
        rw [c2_refl, if_neg (show ¬ ((none : Option Nat) ≠ none ∨ (none : Option Nat) ≠ none) from fun q => q.elim (fun e => e rfl) (fun e => e rfl)), e115_99 (d + 3), h62, bV_ex (hfl 6)]
        rfl
  · rw [decide_eq_false q1, cond_false, if_pos q1, h62, bV_ex (hfl 2)]
    rfl
/-- a parameter, the model -/
theorem par_m {V S k : Nat} (hLV : LV m σ τ) (hμ : mu τ = μ) (hA : A ≤ m) (h17 : rd τ 123 17 = i32 A) (h5 : rd τ 123 5 = 0) (hVA : VARS m V σ τ) (hS : SCP V S sc σ τ) (hV3 : V ≤ 3000) (hF : FUNS m fc σ τ) (hc : rd τ 123 27 = i32 fc) (hg : rd τ 123 28 = i32 g) (hg2 : g ≤ 20) (hV : rd τ 123 36 = i32 V) (h140 : rd τ 140 g = i32 k) (hk : k ≤ 5) (hl : sc.length ≠ 40) (d : Nat) :
    rn L xs (d + 3) 304 0 [.ref 123, .int (i32 g), jv] [] τ = if k < 5 ∧ vck σ (μ A) A g fc sc = 0 then some (.inl (some (.int (i32 V))), mVar τ A V) else some (.inl (some (.int 0)), mFlt τ (i32 (if k < 5 then vck σ (μ A) A g fc sc else v5k σ (μ A) A g fc sc)) (rd τ 127 A)) := by
  have hm := hLV.1
  have h306 := ST_mvar_run (L := L) (xs := xs) hLV hμ hA h17 h5 hVA hS hV3 hF hc hg hg2 hV d
  have e79 : ∀ v1 v2, rn L xs (d + 2 + 1) 304 79 [.ref 123, v1, v2] [] τ = if vck σ (μ A) A g fc sc = 0 then some (.inl (some (.int (i32 V))), mVar τ A V) else some (.inl (some (.int 0)), mFlt τ (i32 (vck σ (μ A) A g fc sc)) (rd τ 127 A)) := fun v1 v2 => by
    rw [e304_79 (d + 2)]
    by_cases q : vck σ (μ A) A g fc sc = 0
    · rw [if_pos q] at h306 ⊢
      rw [bI_ok h306]
    · rw [if_neg q] at h306 ⊢
      rw [bI_ok h306]
  have e56 : ∀ v1 v2, rn L xs (d + 2 + 1) 304 56 [.ref 123, v1, v2] [] τ = if vck σ (μ A) A g fc sc = 0 then some (.inl (some (.int (i32 V))), mVar τ A V) else some (.inl (some (.int 0)), mFlt τ (i32 (vck σ (μ A) A g fc sc)) (rd τ 127 A)) := fun v1 v2 => by
    rw [e304_56 (d + 2), e304_57 (d + 2), show pv_c1 .eq (0 : Int32) = true from rfl, cond_true, e79]
  rw [e304_0 (d + 2), c_in (by omega) (by omega) (by omega), i32_ixn (by omega), h140, show (5 : Int32) = i32 ((5 : Nat) : Int) from rfl, c2_ne (by omega) (by omega) (by omega) (by omega)]
  by_cases q5 : k < 5
  · rw [c_t (by omega), e56]
    by_cases q : vck σ (μ A) A g fc sc = 0
    · rw [if_pos q, if_pos ⟨q5, q⟩]
    · rw [if_neg q, if_neg (fun h => q h.2), if_pos q5]
  · rw [c_f (by omega), if_neg (fun h => q5 h.1), if_neg q5]
    have hμ36 := (hLV.2.1 A hA).2.2
    rw [hμ] at hμ36
    have hmk := mkind_ok (L := L) (xs := xs) hLV hA h17 (d + 1)
    rw [hμ] at hmk
    rw [bI_ok hmk, show (1 : Int32) = i32 ((1 : Nat) : Int) from rfl, mcondn (y := 1) rfl (by omega) (by omega)]
    rcases v5_vck (σ := σ) (a := μ A) (A := A) (g := g) (fc := fc) hl with ⟨w1, w2⟩ | ⟨w1, w2⟩
    · -- it is the sixth
      have h0 := w2
      unfold vck at h0
      by_cases q1 : μ A ≠ 1
      · rw [if_pos q1] at h0; omega
      have q1 : μ A = 1 := by omega
      rw [if_neg (fun q => q q1)] at h0
      have hlt : A < m := by
        apply Classical.byContradiction
        intro q
        have : A = m := by omega
        have h36 := hLV.2.2.1
        rw [hμ, ← this] at h36
        omega
      have hnm : nmR m σ τ (rl σ 12 A) (rd τ 129 A) := ⟨A, hlt, by rw [hμ]; exact q1, rfl, rfl⟩
      by_cases q2 : (sc.find? fun v => decide (rl σ 29 v = rl σ 12 A)) ≠ none ∨ fIx (fun f => decide (rl σ 42 f = rl σ 12 A)) (min (g + 1) fc) 0 ≠ none
      · rw [if_pos q2] at h0; omega
      have q3 : (sc.find? fun v => decide (rl σ 29 v = rl σ 12 A)) = none := Classical.byContradiction (fun e => q2 (Or.inl e))
      have q4 : fIx (fun f => decide (rl σ 42 f = rl σ 12 A)) (min (g + 1) fc) 0 = none := Classical.byContradiction (fun e => q2 (Or.inr e))
      rw [if_pos q1, h17, c_in (by omega) (by omega) (by omega), i32_ixn (by omega), bI_ok (mvar_ok hLV hVA hS hV3 (d + 1) hnm), q3]
      show cond (pv_c2 .ne (i32 (-1)) (i32 (-1))) _ _ = _
      rw [c2_ne (by omega) (by omega) (by omega) (by omega), c_f (by omega), h17, c_in (by omega) (by omega) (by omega), i32_ixn (by omega), bI_ok (mfun_ok hLV hF hc hg hg2 (d + 1) hnm), q4]
      show cond (pv_c2 .ne (i32 (-1)) (i32 (-1))) _ _ = _
      rw [c2_ne (by omega) (by omega) (by omega) (by omega), c_f (by omega), e304_57 (d + 2), show pv_c1 .eq (i32 ((1 : Nat) : Int)) = false from rfl, cond_false, h17, c_in (by omega) (by omega) (by omega), i32_ixn (by omega), bV_ok (mfail_ok h5 (d + 1) _ _), w1]
      rfl
    · have hne : vck σ (μ A) A g fc sc ≠ 0 := by omega
      rw [w1]
      rcases w2 with ⟨w3, w4⟩ | ⟨w3, w4, w5⟩
      · rw [if_neg w4, e56, if_neg hne]
      · have hlt : A < m := by
          apply Classical.byContradiction
          intro q
          have : A = m := by omega
          have h36 := hLV.2.2.1
          rw [hμ, ← this] at h36
          omega
        have hnm : nmR m σ τ (rl σ 12 A) (rd τ 129 A) := ⟨A, hlt, by rw [hμ]; exact w4, rfl, rfl⟩
        rw [if_pos w4, h17, c_in (by omega) (by omega) (by omega), i32_ixn (by omega), bI_ok (mvar_ok hLV hVA hS hV3 (d + 1) hnm)]
        cases hv : (sc.find? fun v => decide (rl σ 29 v = rl σ 12 A)) with
        | some v =>
          have hv4 := hS.2.2.2.2.2.1 v (List.mem_of_find?_eq_some hv)
          show cond (pv_c2 .ne (i32 (v : Int)) (i32 (-1))) _ _ = _
          rw [c2_ne (by omega) (by omega) (by omega) (by omega), c_t (by omega), e56, if_neg hne]
        | none =>
          show cond (pv_c2 .ne (i32 (-1)) (i32 (-1))) _ _ = _
          rw [c2_ne (by omega) (by omega) (by omega) (by omega), c_f (by omega), h17, c_in (by omega) (by omega) (by omega), i32_ixn (by omega), bI_ok (mfun_ok hLV hF hc hg hg2 (d + 1) hnm)]
          cases hf : fIx (fun f => decide (rl σ 42 f = rl σ 12 A)) (min (g + 1) fc) 0 with
          | some f =>
            have hfl2 := fIx_lt _ _ _ hf
            have := hF.1
            show cond (pv_c2 .ne (i32 (f : Int)) (i32 (-1))) _ _ = _
            rw [c2_ne (by omega) (by omega) (by omega) (by omega), c_t (by omega), e56, if_neg hne]
          | none =>
            rw [hv, hf] at w5
            exact absurd w5 (fun q => q.elim (fun e => e rfl) (fun e => e rfl))
end PARAM
