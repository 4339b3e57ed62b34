/-! READING: calls -/
section CALL
variable {L : Nat} {xs : Nat → Int32} {K1 K2 m : Nat} {μ : Nat → Nat} {g fc : Nat} {sc : List Nat} {fs fs' : List (Nat × Nat × List Nat)} {F D H n A P r r0 : Nat} {σ τ σ' τ' σ1 τ1 : tvS}
theorem contK.snoc {c : Nat} : ∀ (l : List Nat) (s p : Nat), contK σ s l p → rd σ 26 c = i32 p → p ≤ c → contK σ s (l ++ [c]) (c + 1) := by
  intro l
  induction l with
  | nil => intro s p h h1 h2; have h : s = p := h; subst h; exact ⟨h1, h2, Nat.lt_succ_self _, rfl⟩
  | cons a r ih =>
    intro s p h h1 h2
    obtain ⟨g1, g2, g3, g4⟩ := h
    exact ⟨g1, g2, by omega, ih _ _ g4 h1 h2⟩
theorem contK.lt : ∀ (l : List Nat) (s p : Nat), contK σ s l p → ∀ u w c e : Nat, u < w → l[u]? = some c → l[w]? = some e → c < e := by
  intro l
  induction l with
  | nil => intro s p _ u w c e _ h; simp at h
  | cons a r ih =>
    intro s p h u w c e huw hc he
    obtain ⟨g1, g2, g3, g4⟩ := h
    cases w with
    | zero => omega
    | succ w =>
      have he : r[w]? = some e := he
      cases u with
      | zero =>
        have hc : a = c := Option.some.inj hc
        have := contK.mem r (a + 1) p g4 e (List.mem_of_getElem? he)
        omega
      | succ u => exact ih _ _ g4 u w c e (by omega) hc he
/-- arguments that stand read -/
def ARGS (kl : List Nat) (P P1 H r : Nat) (σ τ : tvS) : Prop := contK σ P kl P1 ∧ ∀ w c : Nat, kl[w]? = some c → rd σ 63 (H + w) = i32 c ∧ rd τ 135 (r + w) = i32 c ∧ rd σ 24 c = i32 (-1) ∧ rd σ 23 c = i32 (-1) ∧ rd σ 28 c = rd σ 62 5
theorem ARGS.old {kl : List Nat} {P0 P1 H r n' r' H' P' : Nat} (h : ARGS kl P0 P1 H r σ τ) (ho : OLD n' r' H' P' σ τ σ' τ') (hr : r + kl.length ≤ r') (hH : H + kl.length ≤ H') (hP : P1 ≤ P') (h5 : rd σ' 62 5 = rd σ 62 5) : ARGS kl P0 P1 H r σ' τ' := by
  obtain ⟨h1, h2⟩ := h
  refine ⟨h1.congr _ _ _ (fun i hi => ho.2.2.2.1 i (by omega) 26 (by omega) (by omega)), fun w c hw => ?_⟩
  obtain ⟨a1, a2, a3, a4, a5⟩ := h2 w c hw
  have hl : w < kl.length := by
    apply Classical.byContradiction
    intro q
    rw [List.getElem?_eq_none (by omega)] at hw
    cases hw
  have hc := contK.mem kl P0 P1 h1 c (List.mem_of_getElem? hw)
  exact ⟨(ho.2.2.1 _ (by omega)).trans a1, (ho.2.1 _ (by omega) 135 (by omega) (by omega)).trans a2, (ho.2.2.2.1 c (by omega) 24 (by omega) (by omega)).trans a3, (ho.2.2.2.1 c (by omega) 23 (by omega) (by omega)).trans a4, ((ho.2.2.2.1 c (by omega) 28 (by omega) (by omega)).trans a5).trans h5.symm⟩
/-- they stand apart -/
def SPA (kl : List Nat) (A A1 k : Nat) (σ : tvS) : Prop := ∀ w c s' : Nat, kl[w]? = some c → rd σ 26 c = i32 s' → ∀ q, s' ≤ q → q ≤ c → A + 2 + 2 * w ≤ ix (rd σ 17 q) ∧ ix (rd σ 18 q) + 2 * (k - w) ≤ A1
theorem arg_loop {B : Nat} (hE : NT L xs K1 K2 m μ g fc 1 119 0 0 [jv] B) {f d : Nat} (hAm : A < m) (hB : m - A ≤ B) (hn : n ≤ 8 * A + 6) (hH : H ≤ 3 * A) (hd : 12 * (40 - D) + 20 + 3 ≤ d) : ∀ (b k A1 P1 : Nat) (kl : List Nat) (σ τ : tvS) (v5 v6 v7 v8 : Value), m - A1 < b → ST K1 K2 m μ g fc sc fs D (H + k) (n + 2) A1 P1 (r + k) σ τ → IT τ n 32 (i32 A) (i32 (k + 1 : Nat)) → rd τ 132 (n + 1) = i32 1 → kl.length = k → ARGS kl P P1 H r σ τ → RF (A + 2) P P1 σ → SPA kl A A1 k σ → 2 * k + A + 2 ≤ A1 → P1 + 1 + ach μ A + wch μ A ≤ P + wch μ A1 →
    (∃ k' A2 P2 kl' σ' τ' v4' v5' v6' v7' v8', rn L xs (d + 1) 135 29 [.ref 62, .int (i32 f), .int (i32 A), .int (i32 H), .int 1, v5, v6, v7, v8] [] σ = rn L xs (d + 1) 135 53 [.ref 62, .int (i32 f), .int (i32 A), .int (i32 H), v4', v5', v6', v7', v8'] [] σ' ∧ mS L xs τ τ' ∧ ST K1 K2 m μ g fc sc fs D (H + k') (n + 1) A2 P2 (r + k') σ' τ' ∧ IT τ' n 32 (i32 A) (i32 (k' : Nat)) ∧ μ A2 ≠ 26 ∧ kl'.length = k' ∧ 1 ≤ k' ∧ (ARGS kl' P P2 H r σ' τ' ∧ RF (A + 2) P P2 σ' ∧ SPA kl' A (A2 + 1) k' σ') ∧ k' + A + 2 ≤ A2 ∧ P2 + 1 + ach μ A + wch μ A ≤ P + wch μ A2 ∧ P ≤ P2 ∧ OLD n r H P σ τ σ' τ') ∨
      FLT L xs K1 K2 τ (rn L xs (d + 1) 135 29 [.ref 62, .int (i32 f), .int (i32 A), .int (i32 H), .int 1, v5, v6, v7, v8] [] σ) := by
  intro b
  induction b with
  | zero => intro k A1 P1 kl σ τ _ _ _ _ h; exact absurd h (Nat.not_lt_zero _)
  | succ b ih =>
    intro k A1 P1 kl σ τ v5 v6 v7 v8 hb h hI hX hkl hAR hRF hSP hA1 hw
    obtain ⟨d', rfl⟩ : ∃ d', d = d' + 3 := ⟨d - 3, by omega⟩
    have hPle : P ≤ P1 := by
      cases kl with
      | nil => exact Nat.le_of_eq hAR.1
      | cons c t => have := contK.mem _ _ _ hAR.1 c List.mem_cons_self; omega
    rw [e135_29 (d' + 3), show pv_c1 .eq (1 : Int32) = false from rfl, cond_false]
    rcases hE sc fs D (H + k) (n + 1) A1 P1 (r + k) σ τ (d' + 3) h hX (by omega) (by omega) (by omega) with ⟨a, σ2, τ2, f1, f2, f3⟩ | ⟨σ0, τ0, kk, p, f1, f2, f3, f4⟩
    · rw [bI_ok f1]
      obtain ⟨A2, P2, y1, y2, ⟨t1, t2, t3, t4, t5, t6, t7, u1, u2, u3, u4, u5, u6⟩, y4, y5, y6⟩ := f3
      subst y1
      obtain ⟨o1, o2, o3, o4, ⟨o5, o5'⟩, o6, ⟨s1, s2, s3, s4, s5, s6, s7, s8, s9, s10, s11, s12⟩, o8, o9, o10⟩ := y2.all
      have hAR2 := hAR.old y6 (by omega) (by omega) (Nat.le_refl _) (h.s5 y2)
      have hI2 := IT.old y6 (by omega) hI
      have hold2 : OLD n r H P σ τ σ2 τ2 := y6.mono (by omega) (by omega) (by omega) hPle
      rw [bV_ok (hold_ok s5 (by omega) (d' + 2) _)]
      have hST3 : ST K1 K2 m μ g fc sc fs D (H + (k + 1)) (n + 1) A2 P2 (r + (k + 1)) (wr (wr σ2 63 (H + k) (i32 (P2 - 1 : Nat))) 62 11 (i32 (H + k + 1 : Nat))) τ2 := y2.ag ((agC.refl.wr rfl).wr rfl) agM.refl (Nat.le_refl _) s8 s9 (by omega) s11 (by rw [rd_wr, if_neg (by omega), wr_nek (by omega)]; exact s1) s2 (by rw [rd_wr, if_neg (by omega), wr_nek (by omega)]; exact s3) s4 (by rw [rd_wr, if_pos ⟨rfl, rfl⟩]; rfl) s6 s7
      have hAR3 : ARGS (kl ++ [P2 - 1]) P P2 H r (wr (wr σ2 63 (H + k) (i32 (P2 - 1 : Nat))) 62 11 (i32 (H + k + 1 : Nat))) τ2 := by
        have e : ∀ j i, j < 62 → rd (wr (wr σ2 63 (H + k) (i32 (P2 - 1 : Nat))) 62 11 (i32 (H + k + 1 : Nat))) j i = rd σ2 j i := fun j i hj => by rw [wr_nek (by omega), wr_nek (by omega)]
        refine ⟨?_, fun w c hw2 => ?_⟩
        · have := (hAR2.1.congr (σ' := wr (wr σ2 63 (H + k) (i32 (P2 - 1 : Nat))) 62 11 (i32 (H + k + 1 : Nat))) _ _ _ (fun i _ => e 26 i (by omega))).snoc (c := P2 - 1) _ _ _ ((e 26 _ (by omega)).trans u2) u1
          rw [show P2 - 1 + 1 = P2 by omega] at this
          exact this
        · by_cases q : w < kl.length
          · rw [List.getElem?_append_left q] at hw2
            obtain ⟨b1, b2, b3, b4, b5⟩ := hAR2.2 w c hw2
            exact ⟨by rw [wr_nek (by omega), rd_wr, if_neg (by omega)]; exact b1, b2, (e 24 c (by omega)).trans b3, (e 23 c (by omega)).trans b4, ((e 28 c (by omega)).trans b5).trans (hST3.s5 y2)⟩
          · rw [List.getElem?_append_right (by omega)] at hw2
            have hw0 : w - kl.length = 0 := by
              apply Classical.byContradiction
              intro q2
              rw [List.getElem?_eq_none (by show 1 ≤ _; omega)] at hw2
              cases hw2
            rw [hw0] at hw2
            have hw2 : P2 - 1 = c := Option.some.inj hw2
            subst hw2
            rw [show w = k by omega]
            exact ⟨by rw [wr_nek (by omega), rd_wr, if_pos ⟨rfl, rfl⟩], t5, (e 24 _ (by omega)).trans u3, (e 23 _ (by omega)).trans u5, ((e 28 _ (by omega)).trans u6).trans (hST3.s5 y2)⟩
      have hold3 : OLD n r H P σ τ (wr (wr σ2 63 (H + k) (i32 (P2 - 1 : Nat))) 62 11 (i32 (H + k + 1 : Nat))) τ2 := (hold2.wrC (by omega)).wrC (by omega)
      have hRF3 : RF (A + 2) P P2 (wr (wr σ2 63 (H + k) (i32 (P2 - 1 : Nat))) 62 11 (i32 (H + k + 1 : Nat))) := (hRF.join y6 t1.2 (by omega)).to (fun q _ => by rw [wr_nek (by omega), wr_nek (by omega)])
      have hSP3 : SPA (kl ++ [P2 - 1]) A (A2 + 1) (k + 1) (wr (wr σ2 63 (H + k) (i32 (P2 - 1 : Nat))) 62 11 (i32 (H + k + 1 : Nat))) := by
        have e : ∀ j i, j < 62 → rd (wr (wr σ2 63 (H + k) (i32 (P2 - 1 : Nat))) 62 11 (i32 (H + k + 1 : Nat))) j i = rd σ2 j i := fun j i hj => by rw [wr_nek (by omega), wr_nek (by omega)]
        intro w c s' hw2 hs' q h1 h2
        rw [e 26 c (by omega)] at hs'
        rw [e 17 q (by omega), e 18 q (by omega)]
        by_cases q0 : w < kl.length
        · rw [List.getElem?_append_left q0] at hw2
          have hc1 := contK.mem kl P P1 hAR.1 c (List.mem_of_getElem? hw2)
          have hs'' : rd σ 26 c = i32 s' := by rw [← y6.2.2.2.1 c (by omega) 26 (by omega) (by omega)]; exact hs'
          have := hSP w c s' hw2 hs'' q h1 h2
          rw [OLDg.r17 y6 (show q < P1 by omega) (j := 17) (by omega) (by omega), OLDg.r17 y6 (show q < P1 by omega) (j := 18) (by omega) (by omega)]
          omega
        · rw [List.getElem?_append_right (by omega)] at hw2
          have hw0 : w - kl.length = 0 := by
            apply Classical.byContradiction
            intro q2
            rw [List.getElem?_eq_none (by show 1 ≤ _; omega)] at hw2
            cases hw2
          rw [hw0] at hw2
          have hw2 : P2 - 1 = c := Option.some.inj hw2
          subst hw2
          have hs3 := (i32_inj (by omega) (by omega) (by omega) (by omega)).mp (hs'.symm.trans u2)
          have hq1 := t1.2 q (by omega) (by omega)
          have hq2 := y2.last (show q < P2 by omega)
          omega
      generalize wr (wr σ2 63 (H + k) (i32 (P2 - 1 : Nat))) 62 11 (i32 (H + k + 1 : Nat)) = σ3 at hST3 hAR3 hold3 hRF3 hSP3
      have hlen : (kl ++ [P2 - 1]).length = k + 1 := by rw [List.length_append, hkl]; rfl
      have hws := wch_succ μ A2
      rw [bI_ok (hST3.tk (x := 44) (k := 26) rfl (by omega) (by omega) d')]
      by_cases q : μ A2 = 26
      · rw [decide_eq_true q, if_pos q]
        have hlt := hST3.lt (by omega)
        have hpop := hST3.pop
        have q17 : rd (wr τ2 123 18 (i32 n)) 123 17 = i32 A2 := by rw [rd_wr, if_neg (by omega)]; exact s2
        have hmS : mS L xs τ2 (mPush (mPush (wr (wr τ2 123 18 (i32 n)) 123 17 (i32 (A2 + 1 : Nat))) n 32 (i32 A) (i32 (k + 1 + 1 : Nat))) (n + 1) 1 0 0) := by
          refine nx s6 (by omega) o3 hI2 (pc := 346) (by decide +kernel) (fun dm => ?_)
          rw [e310_346 (dm + 7), bV_ok (r := rn L xs (dm + 7) 322 0 _ _ _) (σ := mPush (mPush (wr (wr τ2 123 18 (i32 n)) 123 17 (i32 (A2 + 1 : Nat))) n 32 (i32 A) (i32 (k + 1 + 1 : Nat))) (n + 1) 1 0 0), e310_362]
          rw [e322_0 (dm + 6), bI_ok (hpop.mk (dm + 5)), mcondn (x := 26) (y := 26) rfl (by omega) (by omega), if_pos q, q17, i32_n1, i32_n1, bV_ok (mpush_ok (n := n) (by rw [rd_wr, if_neg (by omega), rd_wr, if_pos ⟨rfl, rfl⟩]) (by omega) (dm + 5) _ _ _), bV_ok (mpush_ok (n := n + 1) mPush_come (by omega) (dm + 5) _ _ _)]
        have h4 := ((hpop.at1 hlt).push (by omega) 32 (i32 A) (i32 (k + 1 + 1 : Nat))).push (by omega) 1 0 0
        have hold4 : OLD n (r + (k + 1)) (H + (k + 1)) P2 σ3 τ2 (wr σ3 62 3 (i32 (A2 + 1 : Nat))) (mPush (mPush (wr (wr τ2 123 18 (i32 n)) 123 17 (i32 (A2 + 1 : Nat))) n 32 (i32 A) (i32 (k + 1 + 1 : Nat))) (n + 1) 1 0 0) := ((((OLD.refl.wrC (Or.inl rfl)).wrM (by omega)).wrM (by omega)).push (by omega)).push (by omega)
        have j1 : IT (mPush (mPush (wr (wr τ2 123 18 (i32 n)) 123 17 (i32 (A2 + 1 : Nat))) n 32 (i32 A) (i32 (k + 1 + 1 : Nat))) (n + 1) 1 0 0) (n + 1) 1 0 0 := IT.at rfl
        have j2 : IT (mPush (mPush (wr (wr τ2 123 18 (i32 n)) 123 17 (i32 (A2 + 1 : Nat))) n 32 (i32 A) (i32 (k + 1 + 1 : Nat))) (n + 1) 1 0 0) n 32 (i32 A) (i32 (k + 1 + 1 : Nat)) := (IT.at rfl).push (by omega)
        generalize mPush (mPush (wr (wr τ2 123 18 (i32 n)) 123 17 (i32 (A2 + 1 : Nat))) n 32 (i32 A) (i32 (k + 1 + 1 : Nat))) (n + 1) 1 0 0 = τ4 at hmS h4 hold4 j1 j2
        rcases ih (k + 1) (A2 + 1) P2 (kl ++ [P2 - 1]) (wr σ3 62 3 (i32 (A2 + 1 : Nat))) τ4 (dj (dj (dj v5))) (dj (dj (dj v6))) (dj (dj (dj v7))) (dj (dj (dj v8))) (by omega) h4 j2 j1.1 hlen (hAR3.old hold4 (by omega) (by omega) (Nat.le_refl _) (hST3.s5 h4)) (hRF3.to (fun q _ => wr_nek (by omega))) (fun w c s' hw2 hs' q h1 h2 => by rw [wr_nek (by omega)] at hs'; rw [wr_nek (by omega), wr_nek (by omega)]; exact hSP3 w c s' hw2 hs' q h1 h2) (by omega) (by omega) with ⟨k', A3, P3, kl', σ5, τ5, w4, w5, w6, w7, w8, z1, z2, z3, z4, z5, z6, z7, z8, z9, z10, z11, z12⟩ | hF
        · exact Or.inl ⟨k', A3, P3, kl', σ5, τ5, w4, w5, w6, w7, w8, z1, f2.trans (hmS.trans z2), z3, z4, z5, z6, z7, z8, z9, z10, z11, hold3.trans ((hold4.mono (Nat.le_refl _) (by omega) (by omega) (by omega)).trans z12 (Nat.le_refl _) (Nat.le_refl _) (Nat.le_refl _) (Nat.le_refl _)) (Nat.le_refl _) (Nat.le_refl _) (Nat.le_refl _) (Nat.le_refl _)⟩
        · exact Or.inr (hF.pre (f2.trans hmS))
      · rw [decide_eq_false q, if_neg q]
        refine Or.inl ⟨k + 1, A2, P2, kl ++ [P2 - 1], σ3, τ2, .int 0, dj (dj (dj v5)), dj (dj (dj v6)), dj (dj (dj v7)), dj (dj (dj v8)), ?_, f2, hST3, hI2, q, hlen, by omega, ⟨hAR3, hRF3, hSP3⟩, by omega, by omega, by omega, hold3⟩
        show rn L xs (d' + 3 + 1) 135 29 [.ref 62, .int (i32 f), .int (i32 A), .int (i32 H), .int 0, _, _, _, _] [] σ3 = _
        rw [e135_29 (d' + 3), show pv_c1 .eq (0 : Int32) = true from rfl, cond_true]
    · rw [bI_ex f1]
      exact Or.inr ⟨σ0, τ0, kk, p, rfl, f2, f3, f4⟩
end CALL
