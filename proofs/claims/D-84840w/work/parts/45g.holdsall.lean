/-! REGIONS, THE COMPONENT: arrows hold what goes beyond: all fns; what fns capture -/
section HOLDSG
variable {L : Nat} {xs : Nat → Int32} {σ σ' σ0 τ : tvS} {D : pgD} {m f : Nat}
variable {K1 K2 N : Nat} {C : tG} {c : Nat → Nat} {H1 S n M : Nat} {pe ar : Nat → Nat} {A : Nat → Nat → Prop} {Q : Nat → Nat → Prop} {ow : Nat → Int}
/-- parts and bodies of a function's fns -/
def FNP (D : pgD) (f : Nat) (pt by' : Nat → Nat) : Prop := ∀ j, D.bF f ≤ j → j < D.bF (f + 1) → D.bP f ≤ pt j ∧ pt j < D.bP (f + 1) ∧ D.K (pt j) = 17 ∧ D.vl (pt j) = j ∧ (D.kd (pt j))[0]? = some (by' j)
theorem PGR.fn (hF : PGF D m) (hf : f ≤ D.fc) (hR : PGR D σ0 τ) {pt by' : Nat → Nat} (hpt : FNP D f pt by') {j : Nat} (h1 : D.bF f ≤ j) (h2 : j < D.bF (f + 1)) : rd σ0 35 j = i32 (pt j : Int) ∧ rd σ0 20 (pt j) = i32 (by' j : Int) ∧ rd σ0 26 (by' j) = i32 (D.st (by' j) : Int) ∧ D.bP f ≤ D.st (by' j) ∧ D.st (by' j) ≤ by' j ∧ by' j < pt j ∧ D.bP f ≤ by' j := by
  have hb4 := hF.1
  have hbl := (hF.le (D.fc + 1 - (f + 1)) (f + 1) (by omega))
  have hPf := hF.2.2 f hf
  obtain ⟨a1, a2, a3, a4, a5⟩ := hpt j h1 h2
  have hRp := hR.2 (pt j) (by omega)
  have hPp := hPf.2.2.1 _ a1 a2
  have e35 := (hRp.2.2.2.2.2.1 a3).2.2.2
  rw [a4] at e35
  have e20 := (hRp.2.1 (by omega) 0 (by omega)).1
  rw [kid_at a5] at e20
  have k := contN.at _ _ _ _ _ hPp.2.1 a5
  have hlo := hPp.1.2.2.1
  have hPb := hPf.2.2.1 (by' j) (by omega) (by omega)
  exact ⟨e35, e20, (hR.2 (by' j) (by omega)).1.2.2.2.2.1, hPb.1.2.2.1, hPb.1.2.2.2, k.2.2.1, by omega⟩
theorem holds_fns {pt by' fr sv : Nat → Nat} (hF : PGF D m) (hf : f ≤ D.fc) (hR : PGR D σ0 τ) (hpt : FNP D f pt by') (hfr : FRm D f n fr σ0) (hsv : ∀ p, D.bP f ≤ p → p ≤ D.bP (f + 1) → rd σ0 78 p = i32 (sv p : Int) ∧ sv p ≤ 5000) (hA : ∀ l : List (Nat × Nat), l.Nodup → (∀ e, e ∈ l → A e.1 e.2) → l.length ≤ M) (hM : H1 + M < 212992) (hI2 : ∀ x, c (c x) = c x) (har : ∀ j, D.bF f ≤ j → j < D.bF (f + 1) → rd σ0 66 (pt j) = i32 (ar j : Int) ∧ ar j < N ∧ C.1 (c (ar j)) = 4) (hpe : ∀ i, i < n → pe i < N) (hAp : ∀ j i, D.bF f ≤ j → j < D.bF (f + 1) → fr (D.bP f) ≤ i → i < n → C.1 (c (pe i)) ≠ 1 → A j (c (pe i))) (ho : ∀ i, i < n → rd σ0 76 i = i32 (ow i) ∧ -2147483648 ≤ ow i ∧ ow i < 2147483648)
    (hq : ∀ j i, D.bF f ≤ j → j < D.bF (f + 1) → fr (D.st (by' j)) ≤ i → i < fr (by' j + 1) → (ow i = -1 ∨ (by' j : Int) < ow i) → C.1 (c (pe i)) ≠ 1 → Q (c (ar j)) (c (pe i))) (hq2 : ∀ j i, D.bF f ≤ j → j < D.bF (f + 1) → sv (by' j + 1) ≠ sv (D.st (by' j)) → fr (D.bP f) ≤ i → i < n → ow i = -1 → C.1 (c (pe i)) ≠ 1 → Q (c (ar j)) (c (pe i))) (d : Nat) :
    ∀ (i j : Nat) (σ : tvS) (NL : List (Nat × Nat)) (h : Nat → Nat → Prop) (y : Int32) (v5 v6 v7 v8 : Value), (y = 0 ∨ y = 1) → j + i = D.bF (f + 1) → D.bF f ≤ j → HPI K1 K2 N C c H1 S n pe ar A NL h σ0 σ → hLe c h Q →
    ∃ (σ' : tvS) (NL' : List (Nat × Nat)) (h' : Nat → Nat → Prop) (y' : Int32), rn L xs (d + 4) 171 13 [.ref 74, .int (i32 (f : Int)), .int (i32 (fr (D.bP f) : Int)), .int y, .int (i32 (j : Int)), v5, v6, v7, v8] [] σ = some (.inl (some (.int y')), σ') ∧ (y' = 0 ∨ y' = 1) ∧ HRS K1 K2 N C c H1 S n pe ar A NL h Q σ0 y y' NL' h' σ' ∧ (∀ j', j ≤ j' → j' < D.bF (f + 1) → (∀ q, fr (D.st (by' j')) ≤ q → q < fr (by' j' + 1) → (ow q = -1 ∨ (by' j' : Int) < ow q) → Hd C c h' (ar j') (pe q)) ∧ (sv (by' j' + 1) ≠ sv (D.st (by' j')) → ∀ q, fr (D.bP f) ≤ q → q < n → ow q = -1 → Hd C c h' (ar j') (pe q))) := by
  have hb4 := hF.1
  have hbl := (hF.le (D.fc + 1 - (f + 1)) (f + 1) (by omega))
  have hPf := hF.2.2 f hf
  obtain ⟨f1, f2, f3, f4⟩ := id hfr
  intro i
  induction i with
  | zero =>
    intro j σ NL h y v5 v6 v7 v8 hy e hj hI hQ
    have e : j = D.bF (f + 1) := by omega
    subst e
    refine ⟨σ, NL, h, y, ?_, hy, ⟨hI, fun _ _ _ k => k, hQ, Nat.le_refl _, .inl ⟨rfl, rfl, rfl⟩⟩, fun j' h1 h2 => by omega⟩
    have hb : b01 y = true := by rcases hy with q | q <;> rw [q] <;> rfl
    rw [e171_13 (d + 3), c_in (by omega) (by omega) (by omega), i32_ixn (by omega), hI.2.2.2.2.rd (j := 49) rfl, (hR.1 f hf).1.2.2.2.2.2, c2_ge (by omega) (by omega) (by omega) (by omega), c_t (by omega), e171_244, hb, cond_true]
  | succ i ih =>
    intro j σ NL h y v5 v6 v7 v8 hy e hj hI hQ
    have hfm := hI.2.2.2.2
    obtain ⟨g1, g2, g3, g4, g5, g6, g7⟩ := hR.fn hF hf hpt hj (show j < D.bF (f + 1) by omega)
    obtain ⟨p1, p2, _⟩ := hpt j hj (by omega)
    obtain ⟨a66, aN, a4⟩ := har j hj (by omega)
    have lo := f2 (D.bP f) (D.st (by' j)) (Nat.le_refl _) g4 (by omega)
    have mi := f2 (D.st (by' j)) (by' j + 1) g4 (by omega) (by omega)
    have hi := f2 (by' j + 1) (D.bP (f + 1)) (by omega) (by omega) (Nat.le_refl _)
    rw [f3] at hi
    have e13 : rn L xs (d + 4) 171 13 [.ref 74, .int (i32 (f : Int)), .int (i32 (fr (D.bP f) : Int)), .int y, .int (i32 (j : Int)), v5, v6, v7, v8] [] σ = rn L xs (d + 4) 171 72 [.ref 74, .int (i32 (f : Int)), .int (i32 (fr (D.bP f) : Int)), .int y, .int (i32 (j : Int)), .int (i32 (pt j : Int)), .int (i32 (by' j : Int)), .int (i32 (D.st (by' j) : Int)), .int (i32 (fr (D.st (by' j)) : Int))] [] σ := by
      rw [e171_13 (d + 3), c_in (by omega) (by omega) (by omega), i32_ixn (by omega), hfm.rd (j := 49) rfl, (hR.1 f hf).1.2.2.2.2.2, c2_ge (by omega) (by omega) (by omega) (by omega), c_f (by omega), c_in (by omega) (by omega) (by omega), i32_ixn (by omega), hfm.rd (j := 35) rfl, g1, c_in (by omega) (by omega) (by omega), i32_ixn (by omega), hfm.rd (j := 20) rfl, g2, c_in (by omega) (by omega) (by omega), i32_ixn (by omega), hfm.rd (j := 26) rfl, g3, c_in (by omega) (by omega) (by omega), i32_ixn (by omega), hfm.rd (j := 77) rfl, f1 _ g4 (by omega)]
    obtain ⟨s1, NL1, h1, y1, b1, b2, b3, b4⟩ := holds_in (L := L) (xs := xs) (j := j) (p := pt j) (b := by' j) (fb := fr (by' j + 1)) (k0 := fr (D.st (by' j))) (ow := ow) hA hM hI2 (by omega) (by omega) f4 hi a66 (f1 _ (by omega) (by omega)) aN a4 hpe (fun i' h1 => hAp j i' hj (by omega) (Nat.le_trans lo h1)) ho (Q := Q) (fun q h1 h2 h3 h4 => hq j q hj (by omega) h1 h2 h3 h4) (i32 (f : Int)) (i32 (fr (D.bP f) : Int)) (i32 (j : Int)) (i32 (D.st (by' j) : Int)) d (fr (by' j + 1) - fr (D.st (by' j))) (fr (D.st (by' j))) σ NL h y hy (by omega) hI hQ (Nat.le_refl _)
    have hI1 := b3.1
    have hfm1 := hI1.2.2.2.2
    obtain ⟨s78, s78'⟩ := hsv (by' j + 1) (by omega) (by omega)
    obtain ⟨t78, t78'⟩ := hsv (D.st (by' j)) g4 (by omega)
    -- the rest
    have rest : ∀ (s2 : tvS) (NL2 : List (Nat × Nat)) (h2 : Nat → Nat → Prop) (y2 : Int32) (u5 u6 u7 u8 : Value), (y2 = 0 ∨ y2 = 1) → HRS K1 K2 N C c H1 S n pe ar A NL1 h1 Q σ0 y1 y2 NL2 h2 s2 → (sv (by' j + 1) ≠ sv (D.st (by' j)) → ∀ q, fr (D.bP f) ≤ q → q < n → ow q = -1 → Hd C c h2 (ar j) (pe q)) → rn L xs (d + 4) 171 72 [.ref 74, .int (i32 (f : Int)), .int (i32 (fr (D.bP f) : Int)), .int y, .int (i32 (j : Int)), .int (i32 (pt j : Int)), .int (i32 (by' j : Int)), .int (i32 (D.st (by' j) : Int)), .int (i32 (fr (D.st (by' j)) : Int))] [] σ = rn L xs (d + 4) 171 238 [.ref 74, .int (i32 (f : Int)), .int (i32 (fr (D.bP f) : Int)), .int y2, .int (i32 (j : Int)), u5, u6, u7, u8] [] s2 → ∃ (σ' : tvS) (NL' : List (Nat × Nat)) (h' : Nat → Nat → Prop) (y' : Int32), rn L xs (d + 4) 171 13 [.ref 74, .int (i32 (f : Int)), .int (i32 (fr (D.bP f) : Int)), .int y, .int (i32 (j : Int)), v5, v6, v7, v8] [] σ = some (.inl (some (.int y')), σ') ∧ (y' = 0 ∨ y' = 1) ∧ HRS K1 K2 N C c H1 S n pe ar A NL h Q σ0 y y' NL' h' σ' ∧ (∀ j', j ≤ j' → j' < D.bF (f + 1) → (∀ q, fr (D.st (by' j')) ≤ q → q < fr (by' j' + 1) → (ow q = -1 ∨ (by' j' : Int) < ow q) → Hd C c h' (ar j') (pe q)) ∧ (sv (by' j' + 1) ≠ sv (D.st (by' j')) → ∀ q, fr (D.bP f) ≤ q → q < n → ow q = -1 → Hd C c h' (ar j') (pe q))) := by
      intro s2 NL2 h2 y2 u5 u6 u7 u8 hy2 g hself hrun
      obtain ⟨σ', NL', h', y', z1, z2, z3, z4⟩ := ih (j + 1) s2 NL2 h2 y2 u5 u6 u7 u8 hy2 (by omega) (by omega) g.1 g.2.2.1
      refine ⟨σ', NL', h', y', ?_, z2, (b3.trans g).trans z3, fun j' j1 j2 => ?_⟩
      · rw [e13, hrun, e171_238, i32_up]; exact z1
      · by_cases ej : j' = j
        · rw [ej]
          exact ⟨fun q q1 q2 q3 => (b4 q q1 q2 q3).ge hI2 (fun t v e k => z3.2.1 t v e (g.2.1 t v e k)), fun hs q q1 q2 q3 => (hself hs q q1 q2 q3).ge hI2 z3.2.1⟩
        · exact z4 j' (by omega) j2
    have e151 : rn L xs (d + 4) 171 151 [.ref 74, .int (i32 (f : Int)), .int (i32 (fr (D.bP f) : Int)), .int y1, .int (i32 (j : Int)), .int (i32 (pt j : Int)), .int (i32 (by' j : Int)), .int (i32 (D.st (by' j) : Int)), .int (i32 (fr (by' j + 1) : Int))] [] s1 = cond (decide (¬ (sv (by' j + 1) : Int) = (sv (D.st (by' j)) : Int))) (rn L xs (d + 4) 171 173 [.ref 74, .int (i32 (f : Int)), .int (i32 (fr (D.bP f) : Int)), .int y1, .int (i32 (j : Int)), .int (i32 (pt j : Int)), .int (i32 (by' j : Int)), .int (i32 (D.st (by' j) : Int)), .int (i32 (fr (by' j + 1) : Int))] [] s1) (rn L xs (d + 4) 171 238 [.ref 74, .int (i32 (f : Int)), .int (i32 (fr (D.bP f) : Int)), .int y1, .int (i32 (j : Int)), .int (i32 (pt j : Int)), .int (i32 (by' j : Int)), .int (i32 (D.st (by' j) : Int)), .int (i32 (fr (by' j + 1) : Int))] [] s1) := by
      rw [e171_151 (d + 3), i32_up, c_in (by omega) (by omega) (by omega), c_in (by omega) (by omega) (by omega), i32_ixn (by omega), i32_ixn (by omega), hfm1.rd (j := 78) rfl, hfm1.rd (j := 78) rfl, s78, t78, c2_ne (by omega) (by omega) (by omega) (by omega)]
    by_cases cs : sv (by' j + 1) = sv (D.st (by' j))
    · refine rest s1 NL1 h1 y1 (.int (i32 (pt j : Int))) (.int (i32 (by' j : Int))) (.int (i32 (D.st (by' j) : Int))) (.int (i32 (fr (by' j + 1) : Int))) b2 ⟨hI1, fun _ _ _ k => k, b3.2.2.1, Nat.le_refl _, .inl ⟨rfl, rfl, rfl⟩⟩ (fun k => absurd cs k) ?_
      rw [b1, e151, decide_eq_false (by omega), cond_false]
    · obtain ⟨s2, NL2, h2, y2, w6, w7, c1, c2, c3, c4⟩ := holds_self (L := L) (xs := xs) (j := j) (p := pt j) (b0 := fr (D.bP f)) (ow := ow) hA hM hI2 (by omega) f4 a66 aN a4 hpe (fun i' => hAp j i' hj (by omega)) ho (Q := Q) (fun q h1 h2 h3 h4 => hq2 j q hj (by omega) cs h1 h2 h3 h4) (i32 (f : Int)) (i32 (fr (D.bP f) : Int)) (i32 (j : Int)) d (n - fr (D.bP f)) (fr (D.bP f)) s1 NL1 h1 y1 (.int (i32 (by' j : Int))) (jk (.int (i32 (D.st (by' j) : Int)))) b2 (by omega) (Nat.le_refl _) hI1 b3.2.2.1
      refine rest s2 NL2 h2 y2 (.int (i32 (pt j : Int))) w6 w7 (.int (i32 (n : Int))) c2 c3 (fun _ => c4) ?_
      rw [b1, e151, decide_eq_true (by omega), cond_true, e171_173, c1]
/-- all of it -/
theorem holds_c {pt by' fr sv : Nat → Nat} {NL : List (Nat × Nat)} {h : Nat → Nat → Prop} (hF : PGF D m) (hf : f ≤ D.fc) (hR : PGR D σ0 τ) (hpt : FNP D f pt by') (hfr : FRm D f n fr σ0) (hsv : ∀ p, D.bP f ≤ p → p ≤ D.bP (f + 1) → rd σ0 78 p = i32 (sv p : Int) ∧ sv p ≤ 5000) (hA : ∀ l : List (Nat × Nat), l.Nodup → (∀ e, e ∈ l → A e.1 e.2) → l.length ≤ M) (hM : H1 + M < 212992) (hI2 : ∀ x, c (c x) = c x) (har : ∀ j, D.bF f ≤ j → j < D.bF (f + 1) → rd σ0 66 (pt j) = i32 (ar j : Int) ∧ ar j < N ∧ C.1 (c (ar j)) = 4) (hpe : ∀ i, i < n → pe i < N) (hAp : ∀ j i, D.bF f ≤ j → j < D.bF (f + 1) → fr (D.bP f) ≤ i → i < n → C.1 (c (pe i)) ≠ 1 → A j (c (pe i))) (ho : ∀ i, i < n → rd σ0 76 i = i32 (ow i) ∧ -2147483648 ≤ ow i ∧ ow i < 2147483648)
    (hq : ∀ j i, D.bF f ≤ j → j < D.bF (f + 1) → fr (D.st (by' j)) ≤ i → i < fr (by' j + 1) → (ow i = -1 ∨ (by' j : Int) < ow i) → C.1 (c (pe i)) ≠ 1 → Q (c (ar j)) (c (pe i))) (hq2 : ∀ j i, D.bF f ≤ j → j < D.bF (f + 1) → sv (by' j + 1) ≠ sv (D.st (by' j)) → fr (D.bP f) ≤ i → i < n → ow i = -1 → C.1 (c (pe i)) ≠ 1 → Q (c (ar j)) (c (pe i))) (hI : HPI K1 K2 N C c H1 S n pe ar A NL h σ0 σ) (hQ : hLe c h Q) (d : Nat) (v3 v4 v5 v6 v7 v8 : Value) :
    ∃ (σ' : tvS) (NL' : List (Nat × Nat)) (h' : Nat → Nat → Prop) (y' : Int32), rn L xs (d + 4) 171 0 [.ref 74, .int (i32 (f : Int)), .int (i32 (fr (D.bP f) : Int)), v3, v4, v5, v6, v7, v8] [] σ = some (.inl (some (.int y')), σ') ∧ (y' = 0 ∨ y' = 1) ∧ HRS K1 K2 N C c H1 S n pe ar A NL h Q σ0 0 y' NL' h' σ' ∧ (∀ j', D.bF f ≤ j' → j' < D.bF (f + 1) → (∀ q, fr (D.st (by' j')) ≤ q → q < fr (by' j' + 1) → (ow q = -1 ∨ (by' j' : Int) < ow q) → Hd C c h' (ar j') (pe q)) ∧ (sv (by' j' + 1) ≠ sv (D.st (by' j')) → ∀ q, fr (D.bP f) ≤ q → q < n → ow q = -1 → Hd C c h' (ar j') (pe q))) := by
  have hb4 := hF.1
  have hPf := hF.2.2 f hf
  have hbF := hPf.1.2.2.1
  obtain ⟨σ', NL', h', y', z1, z2, z3, z4⟩ := holds_fns (L := L) (xs := xs) hF hf hR hpt hfr hsv hA hM hI2 har hpe hAp ho hq hq2 d (D.bF (f + 1) - D.bF f) (D.bF f) σ NL h 0 v5 v6 v7 v8 (.inl rfl) (by omega) (Nat.le_refl _) hI hQ
  refine ⟨σ', NL', h', y', ?_, z2, z3, z4⟩
  rw [e171_0 (d + 3), c_in (by omega) (by omega) (by omega), i32_ixn (by omega), hI.2.2.2.2.rd (j := 48) rfl, (hR.1 f hf).1.2.2.2.2.1]
  exact z1
/-- what one fn captures -/
theorem capt_in {j p : Nat} {NL : List (Nat × Nat)} (hA : ∀ l : List (Nat × Nat), l.Nodup → (∀ e, e ∈ l → A e.1 e.2) → l.length ≤ M) (hM : H1 + M < 212992) (hI2 : ∀ x, c (c x) = c x) (hj : j < 4101) (hp : p < 4101) (h35 : rd σ0 35 j = i32 (p : Int)) (h66 : rd σ0 66 p = i32 (ar j : Int)) (hx : ar j < N) (hk : C.1 (c (ar j)) = 4) (h40 : ln σ0 41 = ln σ0 40) (h40' : ln σ0 40 ≤ 1000000) (x1 : Int32) (d : Nat) : ∀ (l : List (Nat × Nat)) (σ : tvS) (NL : List (Nat × Nat)) (h : Nat → Nat → Prop) (x3 : Int32), capL σ0 l x3 → (∀ e, e ∈ l → e.1 < ln σ0 40 ∧ e.2 < 4101 ∧ rd σ0 67 e.2 = i32 (vT σ0 e.2 : Int) ∧ vT σ0 e.2 < N ∧ (C.1 (c (vT σ0 e.2)) ≠ 1 → A j (c (vT σ0 e.2)) ∧ Q (c (ar j)) (c (vT σ0 e.2)))) → HPI K1 K2 N C c H1 S n pe ar A NL h σ0 σ → hLe c h Q →
    ∃ (σ' : tvS) (NL' : List (Nat × Nat)) (h' : Nat → Nat → Prop), rn L xs (d + 4) 169 33 [.ref 74, .int x1, .int (i32 (j : Int)), .int x3] [] σ = rn L xs (d + 4) 169 91 [.ref 74, .int x1, .int (i32 (j : Int)), .int (i32 (-1))] [] σ' ∧ HPI K1 K2 N C c H1 S n pe ar A NL' h' σ0 σ' ∧ hGe c h h' ∧ hLe c h' Q ∧ (∀ e, e ∈ l → Hd C c h' (ar j) (vT σ0 e.2)) := by
  intro l
  induction l with
  | nil =>
    intro σ NL h x3 hc _ hI hQ
    have hc : x3 = i32 (-1) := hc
    refine ⟨σ, NL, h, ?_, hI, fun _ _ _ k => k, hQ, fun e he => by cases he⟩
    rw [e169_33, hc, i32_raw, c2_refl]
  | cons e l ih =>
    intro σ NL h x3 hc hl hI hQ
    obtain ⟨ci, v⟩ := e
    obtain ⟨k1, k2, k3⟩ := hc
    obtain ⟨g1, g2, g3, g4, g5⟩ := hl (ci, v) List.mem_cons_self
    have g1 : ci < ln σ0 40 := g1
    have g2 : v < 4101 := g2
    have g3 : rd σ0 67 v = i32 (vT σ0 v : Int) := g3
    have g4 : vT σ0 v < N := g4
    have hfm := hI.2.2.2.2
    have e153 : rn L xs (d + 3) 153 0 [.ref 65, .int (i32 (p : Int))] [] σ = some (.inl (some (.int (i32 (ar j : Int)))), σ) := by
      rw [e153_0, c_in (by omega) (by omega) (by omega), i32_ixn (by omega), hfm.rd (j := 66) rfl, h66]
    have e156 : rn L xs (d + 3) 156 0 [.ref 65, .int (i32 (v : Int))] [] σ = some (.inl (some (.int (i32 (vT σ0 v : Int)))), σ) := by
      rw [e156_0, c_in (by omega) (by omega) (by omega), i32_ixn (by omega), hfm.rd (j := 67) rfl, g3]
    obtain ⟨s1, yh, NL1, h1, a1, a2, a3, a4, a5, a6⟩ := HPI.hold (L := L) (xs := xs) (j := j) hA hM hI hx hk g4 (fun q => (g5 q).1) hQ (fun q => (g5 q).2) d jv
    have hfm1 := a2.2.2.2.2
    have n40 := (hfm.1.2.2 40 rfl).1
    have n41 := (hfm1.1.2.2 41 rfl).1
    obtain ⟨σ', NL', h', z1, z2, z3, z4, z5⟩ := ih s1 NL1 h1 (rd s1 41 ci) (by rw [hfm1.rd (j := 41) rfl]; exact k3) (fun e he => hl e (List.mem_cons_of_mem _ he)) a2 a4
    refine ⟨σ', NL', h', ?_, z2, fun t v e k => z3 t v e (a3 t v e k), z4, fun e he => ?_⟩
    · rw [e169_33 (d + 3), k1, i32_raw, c2_eq (by omega) (by omega) (by omega) (by omega), c_f (by omega), c_in (by omega) (by omega) (by omega), i32_ixn (by omega), hfm.rd (j := 35) rfl, h35, bI_ok e153, c_in (by omega) (by omega) (by omega), i32_ixn (by omega), hfm.rd (j := 40) rfl, k2, bI_ok e156, bI_ok a1, c_in (by omega) (by omega) (by omega)]
      exact z1
    · rcases List.mem_cons.mp he with q | q
      · rw [q]; exact a5.ge hI2 z3
      · exact z5 e q
theorem capt_fns {pt by' : Nat → Nat} {cp : Nat → List (Nat × Nat)} (hF : PGF D m) (hf : f ≤ D.fc) (hR : PGR D σ0 τ) (hpt : FNP D f pt by') (hA : ∀ l : List (Nat × Nat), l.Nodup → (∀ e, e ∈ l → A e.1 e.2) → l.length ≤ M) (hM : H1 + M < 212992) (hI2 : ∀ x, c (c x) = c x) (har : ∀ j, D.bF f ≤ j → j < D.bF (f + 1) → rd σ0 66 (pt j) = i32 (ar j : Int) ∧ ar j < N ∧ C.1 (c (ar j)) = 4) (h40 : ln σ0 41 = ln σ0 40) (h40' : ln σ0 40 ≤ 1000000) (hcp : ∀ j, D.bF f ≤ j → j < D.bF (f + 1) → capL σ0 (cp j) (rd σ0 37 j) ∧ ∀ e, e ∈ cp j → e.1 < ln σ0 40 ∧ e.2 < 4101 ∧ rd σ0 67 e.2 = i32 (vT σ0 e.2 : Int) ∧ vT σ0 e.2 < N ∧ (C.1 (c (vT σ0 e.2)) ≠ 1 → A j (c (vT σ0 e.2)) ∧ Q (c (ar j)) (c (vT σ0 e.2)))) (d : Nat) :
    ∀ (i j : Nat) (σ : tvS) (NL : List (Nat × Nat)) (h : Nat → Nat → Prop) (v3 : Value), j + i = D.bF (f + 1) → D.bF f ≤ j → HPI K1 K2 N C c H1 S n pe ar A NL h σ0 σ → hLe c h Q →
    ∃ (σ' : tvS) (NL' : List (Nat × Nat)) (h' : Nat → Nat → Prop), rn L xs (d + 4) 169 10 [.ref 74, .int (i32 (f : Int)), .int (i32 (j : Int)), v3] [] σ = some (.inl none, σ') ∧ HPI K1 K2 N C c H1 S n pe ar A NL' h' σ0 σ' ∧ hGe c h h' ∧ hLe c h' Q ∧ (∀ j' e, j ≤ j' → j' < D.bF (f + 1) → e ∈ cp j' → Hd C c h' (ar j') (vT σ0 e.2)) := by
  have hb4 := hF.1
  have hbl := (hF.le (D.fc + 1 - (f + 1)) (f + 1) (by omega))
  intro i
  induction i with
  | zero =>
    intro j σ NL h v3 e hj hI hQ
    have e : j = D.bF (f + 1) := by omega
    subst e
    refine ⟨σ, NL, h, ?_, hI, fun _ _ _ k => k, hQ, fun j' e h1 h2 => by omega⟩
    rw [e169_10 (d + 3), c_in (by omega) (by omega) (by omega), i32_ixn (by omega), hI.2.2.2.2.rd (j := 49) rfl, (hR.1 f hf).1.2.2.2.2.2, c2_ge (by omega) (by omega) (by omega) (by omega), c_t (by omega), e169_97]
  | succ i ih =>
    intro j σ NL h v3 e hj hI hQ
    have hfm := hI.2.2.2.2
    obtain ⟨g1, g2, g3, g4, g5, g6, g7⟩ := hR.fn hF hf hpt hj (show j < D.bF (f + 1) by omega)
    obtain ⟨p1, p2, _⟩ := hpt j hj (by omega)
    obtain ⟨a66, aN, a4⟩ := har j hj (by omega)
    obtain ⟨k1, k2⟩ := hcp j hj (by omega)
    obtain ⟨s1, NL1, h1, b1, b2, b3, b4, b5⟩ := capt_in (L := L) (xs := xs) (j := j) (p := pt j) (NL := NL) hA hM hI2 (by omega) (by omega) g1 a66 aN a4 h40 h40' (i32 (f : Int)) d (cp j) σ NL h (rd σ0 37 j) k1 k2 hI hQ
    obtain ⟨σ', NL', h', z1, z2, z3, z4, z5⟩ := ih (j + 1) s1 NL1 h1 (.int (i32 (-1))) (by omega) (by omega) b2 b4
    refine ⟨σ', NL', h', ?_, z2, fun t v e k => z3 t v e (b3 t v e k), z4, fun j' e h1 h2 h3 => ?_⟩
    · rw [e169_10 (d + 3), c_in (by omega) (by omega) (by omega), i32_ixn (by omega), hfm.rd (j := 49) rfl, (hR.1 f hf).1.2.2.2.2.2, c2_ge (by omega) (by omega) (by omega) (by omega), c_f (by omega), c_in (by omega) (by omega) (by omega), i32_ixn (by omega), hfm.rd (j := 37) rfl, b1, e169_91, i32_up]
      exact z1
    · by_cases ej : j' = j
      · rw [ej] at h3 ⊢; exact (b5 e h3).ge hI2 z3
      · exact z5 j' e (by omega) h2 h3
end HOLDSG
