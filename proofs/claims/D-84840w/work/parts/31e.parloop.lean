/-! READING: the row of parameters -/
section PARLOOP
variable {L : Nat} {xs : Nat → Int32} {K1 K2 m : Nat} {μ : Nat → Nat} {g fc : Nat} {sc : List Nat} {fs fs' : List (Nat × Nat × List Nat)} {F D H n A P r r0 : Nat} {σ τ σ' τ' σ1 τ1 σ'' τ'' : tvS}
/-- what the next one leads to -/
def pvk (σ : tvS) (a A g V0 k : Nat) : Nat := if k < 5 then vck σ a A g (g + 1) (pls V0 k) else v5k σ a A g (g + 1) (pls V0 k)
theorem pvk_ne {a V0 k : Nat} (hk : k ≤ 5) (h : ¬ (k < 5 ∧ vck σ a A g (g + 1) (pls V0 k) = 0)) : i32 (pvk σ a A g V0 k) ≠ 0 ∧ pv_c1 .le (i32 (pvk σ a A g V0 k)) = false := by
  have hl := pls_len V0 k
  have h2 : pvk σ a A g V0 k = 2 ∨ pvk σ a A g V0 k = 3 ∨ pvk σ a A g V0 k = 6 := by
    unfold pvk
    by_cases q : k < 5
    · rw [if_pos q]
      have := v5_vck (σ := σ) (a := a) (A := A) (g := g) (fc := g + 1) (l := pls V0 k) (by omega)
      omega
    · rw [if_neg q]
      have := v5_vck (σ := σ) (a := a) (A := A) (g := g) (fc := g + 1) (l := pls V0 k) (by omega)
      omega
  rcases h2 with e | e | e <;> rw [e] <;> decide
theorem wr_id {k i : Nat} {v : Int32} (h : rd σ k i = v) : wr σ k i v = σ := by
  refine Prod.ext (funext fun a => funext fun b => ?_) rfl
  show rd (wr σ k i v) a b = rd σ a b
  rw [rd_wr]
  by_cases e : a = k ∧ b = i
  · rw [if_pos e, e.1, e.2]; exact h.symm
  · rw [if_neg e]
theorem PST.on {V0 S0 k A' : Nat} (h : PST K1 K2 m μ g F P V0 S0 k A σ τ) (hA : A ≤ A') (hA' : A' ≤ m) : PST K1 K2 m μ g F P V0 S0 k A' (wr σ 62 3 (i32 A')) (wr τ 123 17 (i32 A')) := by
  obtain ⟨hc, ⟨s1, s2, s3, s4, s5, s6⟩, ⟨k1, k2, k3, k4, k5⟩, hZ, hcal⟩ := h
  obtain ⟨c1, c2, c3, c4, ⟨c5, c5'⟩, c6⟩ := hc.lv
  have hw := c1.2.2.2.2.2.2.1 A s3
  rw [c2] at hw
  have hm := c1.1
  have hws := wch_mono μ hA
  refine ⟨hc.ag (σ' := wr (wr σ 62 3 (i32 A')) 44 g (i32 k)) (by omega) ⟨fun j i hj => ?_, rfl⟩ (agM.refl.wr rfl) hA, ⟨wr_self _ _ _ _, wr_self _ _ _ _, hA', (wr_nei (by omega)).trans s4, by omega, by omega⟩, ⟨k1, (wr_nek (by omega)).trans k2, by omega, (wr_nei (by omega)).trans k4, by omega⟩, hZ.congr (fun i hi => wr_nei (by omega)) (fun j hj i => wr_nek (by omega)), fun p f hp h3 hf h27 => ?_⟩
  · by_cases e : j = 44 ∧ i = g
    · rw [e.1, e.2, wr_self, wr_self]
    · rw [rdne e, rdne e, rdne (fun q => by rw [q.1, q.2] at hj; cases hj)]
  · rw [wr_nek (by omega)] at h3 h27 hf
    exact hcal p f hp h3 hf h27
theorem PST.nx {V0 S0 k : Nat} (h : PST K1 K2 m μ g F P V0 S0 k A σ τ) :
    (∀ d, rn L xs (d + 5) 115 0 [.ref 62, .int (i32 k)] [] σ = if k < 5 ∧ vck σ (μ A) A g (g + 1) (pls V0 k) = 0 then some (.inl (some (.int (i32 (V0 + k : Nat)))), cVar σ A (V0 + k) (rd σ 62 5) k) else some (.inr (1016, (rm σ).1), cFlt σ (i32 (pvk σ (μ A) A g V0 k)) (rd σ 13 A))) ∧
    (∀ d, rn L xs (d + 3) 304 0 [.ref 123, .int (i32 g), jv] [] τ = if k < 5 ∧ vck σ (μ A) A g (g + 1) (pls V0 k) = 0 then some (.inl (some (.int (i32 (V0 + k : Nat)))), mVar τ A (V0 + k)) else some (.inl (some (.int 0)), mFlt τ (i32 (pvk σ (μ A) A g V0 k)) (rd τ 127 A))) ∧
    rd σ 13 A = rd τ 127 A ∧ roomC K1 K2 σ ∧ rd τ 140 g = i32 k ∧ LV m σ τ ∧ mu τ = μ ∧ rd τ 123 5 = 0 ∧ g < 20 := by
  obtain ⟨hc, ⟨s1, s2, s3, s4, s5, s6⟩, ⟨k1, k2, k3, k4, k5⟩, hZ, hcal⟩ := h
  obtain ⟨c1, c2, c3, c4, ⟨c5, c5'⟩, c6⟩ := hc.lv
  obtain ⟨V, S, q0, a5, a7, a8, hm, a6, ⟨b1, b2, b3, b4, b5, b6, b7⟩, a14⟩ := hc.scS
  have hlen := pls_len V0 k
  have hVV : V = V0 + k := by
    have := (i32_inj (by omega) (by omega) (by omega) (by omega)).mp (((wr_nek (by omega)).symm.trans a5).symm.trans k2)
    omega
  subst hVV
  have c1' : LV m σ τ := c1
  have c4' : roomC K1 K2 σ := c4
  have h140 : rd τ 140 g = i32 k := (b7 g (by omega)).trans (wr_self _ _ _ _)
  have hf20 := b6.1
  have b1' : rd σ 62 7 = i32 g := (wr_nek (by omega)).symm.trans b1
  have b4' : rd σ 15 38 = i32 (g + 1 : Nat) := (wr_nek (by omega)).symm.trans b4
  have hch : chC σ (pls V0 k) (rd σ 62 5) := by
    have := q0.1
    rw [wr_nek (by omega)] at this
    exact this.congr _ _ (fun v _ => ⟨(wr_nek (by omega)).symm, (wr_nek (by omega)).symm⟩)
  refine ⟨fun d => ?_, fun d => ?_, (c1.2.1 A s3).2.1, c4', h140, c1', c2, c3, by omega⟩
  · unfold pvk
    by_cases q : k < 5
    · have hr := cvar_run (L := L) (xs := xs) c1' c2 s3 s1 hch (by omega) c4'.xn b4' b1' (by omega) (by omega) k2 (by omega) d
      rw [hlen] at hr
      rw [e115_0 (d + 4), show (5 : Int32) = i32 ((5 : Nat) : Int) from rfl, c2_ge (by omega) (by omega) (by omega) (by omega), c_f (by omega), if_pos q]
      by_cases w : vck σ (μ A) A g (g + 1) (pls V0 k) = 0
      · rw [if_pos w] at hr
        rw [if_pos ⟨q, w⟩, bI_ok hr]
      · rw [if_neg w] at hr
        rw [if_neg (fun e => w e.2), bI_ex hr]
        rfl
    · have : k = 5 := by omega
      subst this
      rw [if_neg q, if_neg (fun e => q e.1)]
      exact par5_c c1' c2 s3 s1 hch c4'.xn b4' b1' (by omega) (by omega) (d + 1)
  · have hr := par_m (L := L) (xs := xs) c1 c2 s3 s2 c3 a14 q0 (by omega) b6 b5 b2 (by omega) a6 h140 k1 (by omega) d
    unfold pvk
    by_cases q : k < 5
    · simp only [if_pos q] at hr ⊢
      exact hr
    · simp only [if_neg q] at hr ⊢
      exact hr
theorem par_flt {V0 S0 k : Nat} {v3 w3 : Value} {x2 : Int32} (h : PST K1 K2 m μ g F P V0 S0 k A σ τ) (hx : pv_c1 .eq x2 = false) (hq : ¬ (k < 5 ∧ vck σ (μ A) A g (g + 1) (pls V0 k) = 0)) (d dm : Nat) : FLB K1 K2 (rn L xs (d + 6) 110 192 [.ref 62, .int (i32 k), .int 1, v3] [] σ) (rn L xs (dm + 4) 300 195 [.ref 123, .int (i32 g), .int x2, w3] [] τ) := by
  obtain ⟨n1, n2, n3, n4, n5, n6, n7, n8, n9⟩ := h.nx (L := L) (xs := xs)
  have e1 := n1 d
  have e2 := n2 (dm)
  rw [if_neg hq] at e1 e2
  obtain ⟨hk0, hk1⟩ := pvk_ne h.2.2.1.1 hq
  have h5 : rd (mFlt τ (i32 (pvk σ (μ A) A g V0 k)) (rd τ 127 A)) 123 5 = i32 (pvk σ (μ A) A g V0 k) := (wr_nei (by omega)).trans (wr_self _ _ _ _)
  refine ⟨σ, mFlt τ (i32 (pvk σ (μ A) A g V0 k)) (rd τ 127 A), i32 (pvk σ (μ A) A g V0 k), rd σ 13 A, ?_, n4, ?_, h5, ?_, hk1⟩
  · rw [e110_192 (d + 5), show pv_c1 .eq (1 : Int32) = false from rfl, cond_false, bI_ex e1]; rfl
  · rw [e300_195 (dm + 3), hx, cond_false, bI_ok e2, h5, hk1, cond_false]
  · rw [n3]; exact wr_self _ _ _ _
/-- the row -/
theorem par_loop {V0 S0 : Nat} : ∀ (j k A : Nat) (σ τ : tvS) (x2 : Int32), k + j = 5 → PST K1 K2 m μ g F P V0 S0 k A σ τ → pv_c1 .eq x2 = false →
    (∃ (k' A' : Nat) (σ' τ' : tvS), PST K1 K2 m μ g F P V0 S0 k' A' σ' τ' ∧ FR2 g P (V0 + k) (S0 + k) σ τ σ' τ' ∧ A < A' ∧ k < k' ∧ (∀ j, 43 ≤ j → j ≤ 49 → rd σ' j g = rd σ j g) ∧ (∀ j, 138 ≤ j ∧ j ≤ 144 ∨ j = 202 → j ≠ 140 → rd τ' j g = rd τ j g) ∧ (∀ f, rl σ' 42 f = rl σ 42 f) ∧
      (∀ d v3, ∃ v v', rn L xs (d + 6) 110 192 [.ref 62, .int (i32 k), .int 1, v3] [] σ = rn L xs (d + 6) 110 220 [.ref 62, .int (i32 k'), v, v'] [] σ') ∧
      (∀ d w3, ∃ v v', rn L xs (d + 4) 300 195 [.ref 123, .int (i32 g), .int x2, w3] [] τ = rn L xs (d + 4) 300 264 [.ref 123, .int (i32 g), v, v'] [] τ')) ∨
    ∀ d dm v3 w3, FLB K1 K2 (rn L xs (d + 6) 110 192 [.ref 62, .int (i32 k), .int 1, v3] [] σ) (rn L xs (dm + 4) 300 195 [.ref 123, .int (i32 g), .int x2, w3] [] τ) := by
  intro j
  induction j with
  | zero =>
    intro k A σ τ x2 hkj h hx
    exact Or.inr (fun d dm v3 w3 => par_flt h hx (fun q => by omega) d dm)
  | succ j ih =>
    intro k A σ τ x2 hkj h hx
    by_cases hq : k < 5 ∧ vck σ (μ A) A g (g + 1) (pls V0 k) = 0
    · obtain ⟨n1, n2, n3, n4, n5, n6, n7, n8, n9⟩ := h.nx (L := L) (xs := xs)
      simp only [if_pos hq] at n1 n2
      obtain ⟨hlt, S, o1, oS, hP, hFR⟩ := h.step (L := L) (xs := xs) hq.1 hq.2
      have hg43 : ∀ j, 43 ≤ j → j ≤ 49 → rd (wr (cVar σ A (V0 + k) (rd σ 62 5) k) 62 5 (i32 (V0 + k : Nat))) j g = rd σ j g := fun j h1 h2 => by
        rw [rdne (by omega)]; exact cVar_oth (by omega) (by omega) (by omega)
      have hg138 : ∀ j, 138 ≤ j ∧ j ≤ 144 ∨ j = 202 → j ≠ 140 → rd (wr (mOpen (mVar τ A (V0 + k)) (V0 + k) k S) 140 g (i32 (k + 1 : Nat))) j g = rd τ j g := fun j h1 h2 => by
        rw [rdne (by omega), mOpen_oth (by omega) (by omega)]; exact mVar_oth (by omega) (by omega)
      have hl42 : ∀ f, rl (wr (cVar σ A (V0 + k) (rd σ 62 5) k) 62 5 (i32 (V0 + k : Nat))) 42 f = rl σ 42 f := fun f => by
        show rl (cVar σ A (V0 + k) (rd σ 62 5) k) 42 f = _
        rw [cVar_rl, if_neg (by omega)]
      have hM5 : rd (mVar τ A (V0 + k)) 123 5 = 0 := (mVar_oth (by omega) (by omega)).trans n8
      have hM140 : rd (mOpen (mVar τ A (V0 + k)) (V0 + k) k S) 140 g = i32 k := by rw [mOpen_oth (by omega) (by omega), mVar_oth (by omega) (by omega)]; exact n5
      have hC : ∀ d v3, rn L xs (d + 6) 110 192 [.ref 62, .int (i32 k), .int 1, v3] [] σ = bI (rn L xs (d + 5) 113 0 [.ref 62, .int 44, jv] [] (wr (cVar σ A (V0 + k) (rd σ 62 5) k) 62 5 (i32 (V0 + k : Nat)))) (fun a4 s3 => rn L xs (d + 6) 110 192 [.ref 62, .int (i32 (k + 1 : Nat)), .int a4, .int (i32 (V0 + k : Nat))] [] s3) X0 := fun d v3 => by
        rw [e110_192 (d + 5), show pv_c1 .eq (1 : Int32) = false from rfl, cond_false, bI_ok (n1 d), i32_n1]
      have hM : ∀ d w3, rn L xs (d + 4) 300 195 [.ref 123, .int (i32 g), .int x2, w3] [] τ = bI (rn L xs (d + 3) 299 0 [.ref 123] [] (wr (mOpen (mVar τ A (V0 + k)) (V0 + k) k S) 140 g (i32 (k + 1 : Nat)))) (fun a3 s2 => cond (pv_c2 .ne a3 26) (rn L xs (d + 4) 300 241 [.ref 123, .int (i32 g), dj (dj (.int x2)), .int (i32 (V0 + k : Nat))] [] s2) (rn L xs (d + 4) 300 242 [.ref 123, .int (i32 g), dj (dj (.int x2)), .int (i32 (V0 + k : Nat))] [.int 1] s2)) X0 := fun d w3 => by
        rw [e300_195 (d + 3), hx, cond_false, bI_ok (n2 d), hM5, show pv_c1 .le (0 : Int32) = true from rfl, cond_true, e300_213 (d + 3), bV_ok (o1 (d + 2)), c_in (by omega) (by omega) (by omega), c_in (by omega) (by omega) (by omega), i32_ixn (by omega), hM140, i32_n1]
      generalize wr (cVar σ A (V0 + k) (rd σ 62 5) k) 62 5 (i32 (V0 + k : Nat)) = σ1 at hP hFR hg43 hl42 hC
      generalize wr (mOpen (mVar τ A (V0 + k)) (V0 + k) k S) 140 g (i32 (k + 1 : Nat)) = τ1 at hP hFR hg138 hM
      obtain ⟨_, _, _, p4, p5, p6, p7, p8, p9⟩ := hP.nx (L := L) (xs := xs)
      have hlt2' : A + 1 ≤ m := hlt
      have hs1 := hP.2.1.1
      have hs2 := hP.2.1.2.1
      have hμ36 := (p6.2.1 (A + 1) hlt2').2.2
      rw [p7] at hμ36
      by_cases hcm : μ (A + 1) = 26
      · have hlt2 : A + 1 + 1 ≤ m := by
          apply Classical.byContradiction
          intro q
          have h36 := p6.2.2.1
          rw [p7, show m = A + 1 by omega] at h36
          omega
        have hP2 := hP.on (A' := A + 1 + 1) (by omega) hlt2
        have hC2 : ∀ d v3, rn L xs (d + 6) 110 192 [.ref 62, .int (i32 k), .int 1, v3] [] σ = rn L xs (d + 6) 110 192 [.ref 62, .int (i32 (k + 1 : Nat)), .int 1, .int (i32 (V0 + k : Nat))] [] (wr σ1 62 3 (i32 (A + 1 + 1 : Nat))) := fun d v3 => by
          have ht : rn L xs (d + 5) 113 0 [.ref 62, .int 44, jv] [] σ1 = _ := rtake_ok (L := L) (xs := xs) p6 hlt2' hs1 (μ := 26) (by omega) (by omega) (d + 2)
          rw [p7, if_pos hcm, decide_eq_true hcm] at ht
          rw [hC d v3, bI_ok ht]
          rfl
        have hM2 : ∀ d w3, rn L xs (d + 4) 300 195 [.ref 123, .int (i32 g), .int x2, w3] [] τ = rn L xs (d + 4) 300 195 [.ref 123, .int (i32 g), .int 1, .int (i32 (V0 + k : Nat))] [] (wr τ1 123 17 (i32 (A + 1 + 1 : Nat))) := fun d w3 => by
          have hk := mkind_ok (L := L) (xs := xs) p6 hlt2' hs2 (d + 2)
          rw [p7] at hk
          rw [hM d w3, bI_ok hk, show (26 : Int32) = i32 ((26 : Nat) : Int) from rfl, mcondn (y := 26) rfl (by omega) (by omega), if_pos hcm, e300_242 (d + 3), show pv_c1 .eq (1 : Int32) = false from rfl, cond_false, e300_257 (d + 3), hs2, i32_n1]
        have hF2 : FR2 g P (V0 + (k + 1)) (S0 + (k + 1)) σ1 τ1 (wr σ1 62 3 (i32 (A + 1 + 1 : Nat))) (wr τ1 123 17 (i32 (A + 1 + 1 : Nat))) := ⟨fun j i _ _ _ => rdne (by omega), fun j i _ _ => rdne (by omega), fun p _ => ⟨fun j hj => rdne (by omega), rdne (by omega)⟩, fun s _ j hj => rdne (by omega), fun v _ => ⟨rdne (by omega), rdne (by omega), rdne (by omega)⟩, fun j i _ _ => rfl⟩
        rcases ih (k + 1) (A + 1 + 1) _ _ 1 (by omega) hP2 rfl with ⟨k', A', σ', τ', r1, r2, r3, r4, r5, r6, r7, r8, r9⟩ | hfl
        · refine Or.inl ⟨k', A', σ', τ', r1, (hFR.trans hF2 (Nat.le_refl _) (by omega) (by omega)).trans r2 (Nat.le_refl _) (by omega) (by omega), by omega, by omega, fun j h1 h2 => (r5 j h1 h2).trans ((rdne (by omega)).trans (hg43 j h1 h2)), fun j h1 h2 => (r6 j h1 h2).trans ((rdne (by omega)).trans (hg138 j h1 h2)), fun f => (r7 f).trans (hl42 f), fun d v3 => ?_, fun d w3 => ?_⟩
          · rw [hC2 d v3]; exact r8 d _
          · rw [hM2 d w3]; exact r9 d _
        · right
          intro d dm v3 w3
          rw [hC2 d v3, hM2 dm w3]
          exact hfl d dm _ _
      · left
        refine ⟨k + 1, A + 1, σ1, τ1, hP, hFR, by omega, by omega, hg43, hg138, hl42, fun d v3 => ⟨.int 0, .int (i32 (V0 + k : Nat)), ?_⟩, fun d w3 => ⟨.int 0, .int (i32 (V0 + k : Nat)), ?_⟩⟩
        · have ht : rn L xs (d + 5) 113 0 [.ref 62, .int 44, jv] [] σ1 = _ := rtake_ok (L := L) (xs := xs) p6 hlt2' hs1 (μ := 26) (by omega) (by omega) (d + 2)
          rw [p7, if_neg hcm, decide_eq_false hcm] at ht
          rw [hC d v3, bI_ok ht]
          show rn L xs (d + 6) 110 192 [.ref 62, .int (i32 (k + 1 : Nat)), .int 0, .int (i32 (V0 + k : Nat))] [] σ1 = _
          rw [e110_192 (d + 5), show pv_c1 .eq (0 : Int32) = true from rfl, cond_true]
        · have hk := mkind_ok (L := L) (xs := xs) p6 hlt2' hs2 (d + 2)
          rw [p7] at hk
          rw [hM d w3, bI_ok hk, show (26 : Int32) = i32 ((26 : Nat) : Int) from rfl, mcondn (y := 26) rfl (by omega) (by omega), if_neg hcm, e300_241 (d + 3), e300_242 (d + 3), show pv_c1 .eq (0 : Int32) = true from rfl, cond_true, e300_256 (d + 3), e300_257 (d + 3), hs2, show i32 ((A + 1 : Nat) : Int) + 0 = i32 ((A + 1 : Nat) : Int) from Int32.add_zero _, wr_id hs2, e300_195 (d + 3), show pv_c1 .eq (0 : Int32) = true from rfl, cond_true]
    · exact Or.inr (fun d dm v3 w3 => par_flt h hx hq d dm)
end PARLOOP
