/-! REGIONS OF A FUNCTION, BOTH: 163 against 348, whole -/
section FNREG
variable {L : Nat} {xs : Nat → Int32} {σ τ : tvS} {K1 K2 Bc Bm f : Nat} {Rc Rm : Nat → Nat → Prop} {pd : List (Nat × List Nat × (Nat → Nat))} {n u a rc rl : Nat} {T T0 : tyJ} {D : pgD} {G : sgD} {m : Nat}
theorem bd47 (F : Nat) : 4001 * (100 * F + 1) + 100000 ≤ 100001 * (9 * F + 2) := by omega
/-- what is found of a function: states at the start (copies made), at the owners, at the end -/
def REC (D : pgD) (G : sgD) (K1 K2 f n0 fst kc0 rf cf0 kf0 : Nat) (pe0 : Nat → Nat) (Bm : Nat) (T1 T' T2 : tyJ) (bl R : List Nat) (ow : Nat → Int) (pe pt by' : Nat → Nat) (kc cf kg : Nat) (kf gf gk : Nat → Nat) (σ τ1 σ' τ' σ2 τ2 : tvS) : Prop :=
  RGO D G K1 K2 f n0 fst pe0 T1 T' Bm bl R ow pe σ τ1 σ' τ' ∧ (FNP D f pt by' ∧ (∀ j, D.bF f ≤ j → j < D.bF (f + 1) → (yG T1).1 (yC T1 (oT σ (pt j))) = 4) ∧ (∀ t v, yC T1 t = t → (LFc D G f (yG T1) (yC T1) (yH T1) pt by' σ t v ↔ hQ (yC T1) (yH T') t v)) ∧ (∀ j, D.bF f ≤ j → j < D.bF (f + 1) → T1.2.1.2.1.1 (T1.2.1.2.2.1 (oM τ1 (pt j))) = 4) ∧ ∀ t v, T1.2.1.2.2.1 t = t → (LFm D G f T1.2.1.2.1 T1.2.1.2.2.1 T1.2.1.2.2.2.1 pt by' τ1 t v ↔ hQ T1.2.1.2.2.1 T'.2.1.2.2.2.1 t v)) ∧ TJ0 K1 K2 T2 σ2 τ2 ∧
  (T2.1.1 = T1.1.1 ∧ yG T2 = yG T1 ∧ yC T2 = yC T1 ∧ yH T2 = yH T') ∧ (T2.2.1.1 = T1.2.1.1 ∧ T2.2.1.2.1 = T1.2.1.2.1 ∧ T2.2.1.2.2.1 = T1.2.1.2.2.1 ∧ T2.2.1.2.2.2.1 = T'.2.1.2.2.2.1) ∧ T2.2.2 = T1.2.2 ∧
  RGEc D f (n0 + (puL D G f (D.bP (f + 1) - D.bP f)).length) fst kc0 rf bl ow (fun j => nfil (mkM D G f T1.2.1.2.2.1 R ow τ' (by' j)) R.length) kf kc σ' σ2 ∧ (∃ nb, RGEm D G f T1.2.1.2.2.1 R ow pt by' cf0 kf0 cf kg gf gk nb τ' τ2) ∧ SML D f T2 σ2 τ2
theorem fn_regions {n0 fst kc0 rf cf0 kf0 : Nat} {pe0 : Nat → Nat} {cp : Nat → List (Nat × Nat)} {bS vs us sc : Nat → Nat} {cl : Nat → List Nat} (hF : PGF D m) (hf : f ≤ D.fc) (hK2 : 6 ≤ K2) (hI : TYI K1 K2 Bc Bm f Rc Rm D G rl (D.bP (f + 1)) (D.bP (f + 1)) n u a pd rc T σ τ) (hg : GHO D G f (D.bP (f + 1)) (D.bP (f + 1)) T0 T σ) (hOB : OLB D G f T0) (hGc : RGC D m cp σ) (hGm : RGM D bS vs us sc cl σ τ) (hGv : RGV D m σ τ) (hCX : CPX D cp)
    (hQP : QP n0 pe0 σ) (hpe0 : ∀ i, i < n0 → pe0 i < T.1.1) (hB : BXS fst σ) (hfst : fst ≤ 1300) (hz : ∀ t, Bm ≤ t → rd τ 184 t = 0) (hn : n0 + (puL D G f (D.bP (f + 1) - D.bP f)).length < 32768) (hl9 : (puL D G f (D.bP (f + 1) - D.bP f)).length ≤ 9999) (h5 : rd τ 123 5 = 0) (h13 : ∀ l, l < m → rd σ 13 l = rd τ 127 l ∧ rd σ 13 l ≠ i32 (-1))
    (hHc : T.1.2.2.2.2.1 + 100 * (D.bF (f + 1) - D.bF f) < 212000) (hBDc : T.1.2.2.2.2.2 + 100000 * (9 * (D.bF (f + 1) - D.bF f) + 2) ≤ 1000000000) (hBDm : ∀ T1 : tyJ, BDG n u a rl T1 → T1.2.1.2.2.2.2.1 + 100 * (D.bF (f + 1) - D.bF f) < 250000 ∧ T1.2.1.2.2.2.2.2.1 + 100001 * (9 * (D.bF (f + 1) - D.bF f) + 2) ≤ 1000000000 ∧ T1.2.1.2.2.2.2.2.2 + 100001 * (9 * (D.bF (f + 1) - D.bF f) + 2) ≤ 1500000000)
    (hk18 : rd σ 74 18 = i32 (kc0 : Int)) (hk85 : kc0 ≤ ln σ 85) (hkc : kc0 + 60 * (D.bF (f + 1) - D.bF f) + 60 < 65536) (h13r : rd σ 65 13 = i32 (rf : Int)) (hrf : rf ≤ ln σ 73) (hrf2 : rf + 60 < 2048) (hcf : cf0 + 40 * fnN D f (D.bP (f + 1) - D.bP f) + 41 < 30000) (hkf : kf0 + 60 * fnN D f (D.bP (f + 1) - D.bP f) + 61 < 40000) (h103 : rd τ 123 103 = i32 (cf0 : Int)) (h107 : rd τ 123 107 = i32 (kf0 : Int)) (d dm : Nat) (v2 v3 v4 v5 u2 u3 : Value) :
    RGF K1 K2 σ τ (rn L xs (d + 7) 163 0 [.ref 74, .int (i32 (f : Int)), v2, v3, v4, v5] [] σ) (rn L xs (dm + 7) 348 0 [.ref 123, .int (i32 (f : Int)), u2, u3] [] τ) ∨
    ∃ (τ1 σ' τ' σ2 τ2 : tvS) (T1 T' T2 : tyJ) (pd1 : List (Nat × List Nat × (Nat → Nat))) (rc1 : Nat) (bl R : List Nat) (ow : Nat → Int) (pe pt by' : Nat → Nat) (kc cf kg : Nat) (kf gf gk : Nat → Nat), rn L xs (d + 7) 163 0 [.ref 74, .int (i32 (f : Int)), v2, v3, v4, v5] [] σ = some (.inl none, σ2) ∧ rn L xs (dm + 7) 348 0 [.ref 123, .int (i32 (f : Int)), u2, u3] [] τ = some (.inl none, τ2) ∧ TYI K1 K2 Bc Bm f Rc Rm D G rl (D.bP (f + 1)) (D.bP (f + 1)) n u a pd1 rc1 T1 σ τ1 ∧ (∀ q, D.bP f ≤ q → q < D.bP (f + 1) → D.K q = 3 → D.vl q < f → ∃ n1 : Nat, rd τ1 181 q = i32 (n1 : Int) ∧ n1 < 60000) ∧ exT Bc Bm T T1 ∧ T1.1 = T.1 ∧ frM FMO FMF τ τ1 ∧ ORm D f τ τ1 ∧ GHO D G f (D.bP (f + 1)) (D.bP (f + 1)) T0 T1 σ ∧
      REC D G K1 K2 f n0 fst kc0 rf cf0 kf0 pe0 Bm T1 T' T2 bl R ow pe pt by' kc cf kg kf gf gk σ τ1 σ' τ' σ2 τ2 ∧
      (T2.1.2.2.2.2.1 ≤ T.1.2.2.2.2.1 + 100 * (D.bF (f + 1) - D.bF f) ∧ T2.1.2.2.2.2.2 ≤ T.1.2.2.2.2.2 + 100000 * (9 * (D.bF (f + 1) - D.bF f) + 1) ∧ T2.2.1.2.2.2.2.1 ≤ T1.2.1.2.2.2.2.1 + 100 * (D.bF (f + 1) - D.bF f) ∧ T2.2.1.2.2.2.2.2.1 ≤ T1.2.1.2.2.2.2.2.1 + 100001 * (9 * (D.bF (f + 1) - D.bF f) + 2) ∧ T2.2.1.2.2.2.2.2.2 ≤ T1.2.1.2.2.2.2.2.2 + 100001 * (9 * (D.bF (f + 1) - D.bF f) + 2)) := by
  have hb4 := hF.1
  have hbl := (hF.le (D.fc + 1 - (f + 1)) (f + 1) (by omega))
  have hPf := hF.2.2 f hf
  have hff := hI.2.1.1 f hf
  have hlt := hPf.1.1
  have hvN : D.tV (f + 1) ≤ D.tV (D.fc + 1) := by
    have hle : ∀ j g, g + j = D.fc + 1 → D.tV g ≤ D.tV (D.fc + 1) := by
      intro j
      induction j with
      | zero => intro g e; rw [show g = D.fc + 1 by omega]; exact Nat.le_refl _
      | succ j ih => intro g e; exact Nat.le_trans (by have := (hF.2.2 g (by omega)).1.2.1; omega) (ih (g + 1) (by omega))
    exact hle (D.fc - f) (f + 1) (by omega)
  obtain ⟨τ1, T1, pd1, rc1, w2, w3, a1, a2, a3, a4, a5, a6, a7⟩ := reg_first (L := L) (xs := xs) hF hf dm (D.bP (f + 1) - D.bP f) (D.bP f) pd rc T τ u3 (by omega) (Nat.le_refl _) hI (fun q h1 h2 => by omega)
  have run : rn L xs (dm + 7) 348 0 [.ref 123, .int (i32 (f : Int)), u2, u3] [] τ = rn L xs (dm + 7) 348 51 [.ref 123, .int (i32 (f : Int)), w2, w3] [] τ1 := by
    rw [e348_0 (dm + 6), c_in (by omega) (by omega) (by omega), i32_ixn (by omega), hff.2.1.2.2.2.1]; exact a1
  have hg1 : GHO D G f (D.bP (f + 1)) (D.bP (f + 1)) T0 T1 σ := by
    obtain ⟨A, B⟩ := T
    obtain ⟨A', B'⟩ := T1
    have e : A' = A := a6
    subst e
    exact hg
  have hbd := a2.1.2.2.2.2
  have hrl : BDG n u a rl T1 := by
    obtain ⟨⟨Nk, ce, Nm, cm, _, _, _, _, hr, _⟩, _⟩ := a2.2.2.2
    obtain ⟨k1, k2, k3, k4, k5, k6, k7⟩ := hbd
    exact ⟨k1, k2, by omega, by omega, by omega, by omega, by omega⟩
  obtain ⟨m1, m2, m3⟩ := hBDm T1 hrl
  have e1 : T1.1 = T.1 := a6
  have p1 : 2 * (D.bP (f + 1) - D.bP f) * (100 * (D.bF (f + 1) - D.bF f) + 1) ≤ 8002 * (100 * (D.bF (f + 1) - D.bF f) + 1) := Nat.mul_le_mul_right _ (by omega)
  rw [run]
  rcases reg_joint (L := L) (xs := xs) hF hf hK2 a2 a4 hg1 hOB hGc (hGm.to (fun _ => rfl) (fun j hj i => a5.rd (inL_off (S' := 123 :: FMO) (by decide) j hj) i)) hQP (by rw [e1]; exact hpe0) hB hfst (fun t ht => by rw [a5.rd (j := 184) rfl]; exact hz t ht) hn hl9 ((a5.2 5 rfl).trans h5) (fun l hl => by rw [a5.rd (j := 127) rfl]; exact (h13 l hl).1) (by rw [e1]; omega) (by rw [e1]; omega) m1 (by omega) (by omega) (d + 2) (dm + 1) v2 v3 v4 v5 w2 w3 with h | ⟨σ', τ', T', bl, R, ow, pe, x3, x4, x5, y3, b1, b2, b3, b4, b5, b6, b7, b8⟩
  · left
    obtain ⟨s, t2, y, q1, q2, q3, q4, q5⟩ := h
    exact ⟨s, t2, y, q1, q2, q3, q4, q5⟩
  obtain ⟨_, _, _, _, _, _, _, _, _, _, _, _, _, _, _, _, _, ⟨_, _, _, pt, by', hpt, har, hLF⟩, _⟩ := id b3
  have e5 : T'.1.2.2.2.2.2 + 2 * (D.bP (f + 1) - D.bP f) + 2 * (D.tV (f + 1) - D.tV f) + 2 ≤ T.1.2.2.2.2.2 + 100000 * (9 * (D.bF (f + 1) - D.bF f) + 1) := by
    rw [e1] at b5
    omega
  have b1' : rn L xs (d + 7) 163 0 [.ref 74, .int (i32 (f : Int)), v2, v3, v4, v5] [] σ = rn L xs (d + 7) 163 205 [.ref 74, .int (i32 (f : Int)), .int (i32 (n0 : Int)), x3, x4, x5] [] σ' := b1
  rw [b1', b2]
  rcases tails_joint (L := L) (xs := xs) hF hf hK2 a2 a4 hGc (hGm.to (fun _ => rfl) (fun j hj i => a5.rd (inL_off (S' := 123 :: FMO) (by decide) j hj) i)) (hGv.to (fun _ => rfl) (fun _ => rfl) (fun i => a5.rd (j := 146) rfl i)) hCX hn ((a5.2 5 rfl).trans h5) (fun l hl => by rw [a5.rd (j := 127) rfl]; exact h13 l hl) b3 hpt hk18 hk85 hkc h13r hrf hrf2 (by omega) hcf hkf ((a5.2 103 rfl).trans h103) ((a5.2 107 rfl).trans h107) (by omega) (by omega) d (dm + 1) x3 x4 x5 (.int 0) y3 with h | ⟨σ2, τ2, T2, kc, cf, kg, kf, gf, gk, c1, c2, c3, c4, c5, c6, c7, c8, c9⟩
  · left
    obtain ⟨s, t2, y, q1, q2, q3, q4, q5⟩ := h
    exact ⟨s, t2, y, q1, q2, q3, q4, q5⟩
  · right
    refine ⟨τ1, σ', τ', σ2, τ2, T1, T', T2, pd1, rc1, bl, R, ow, pe, pt, by', kc, cf, kg, kf, gf, gk, c1, c2, a2, a4, a3, a6, a5, a7, hg1, ⟨b3, ⟨hpt, har, hLF⟩, c3, ⟨c4.1, c4.2.1, c4.2.2.1, c4.2.2.2.1⟩, ⟨c5.1, c5.2.1, c5.2.2.1, c5.2.2.2.1⟩, c6, c7, c8, c9⟩, ?_, ?_, ?_, ?_, ?_⟩
    · rw [c4.2.2.2.2.1]; rw [e1] at b4; exact b4
    · rw [c4.2.2.2.2.2]; exact e5
    · rw [c5.2.2.2.2.1]; exact b6
    · rw [c5.2.2.2.2.2.1]; omega
    · refine Nat.le_trans c5.2.2.2.2.2.2 (Nat.le_trans (Nat.add_le_add_right b8 _) ?_)
      rw [Nat.add_assoc]
      exact Nat.add_le_add_left (bd47 _) _
end FNREG
