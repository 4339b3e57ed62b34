/-! CODE: numbers, nil, variables, closures -/
def t201 (κ : Nat) : Nat := [108, 125, 133, 149, 158, 198, 198, 239, 331, 331, 331, 331, 331, 331, 331, 331, 178, 250, 258, 267, 322].getD κ 0
theorem sw201 : ∀ κ : Nat, κ < 21 → ((insP 201 9).bind fun q => tv_sw q.1 9 (i32 κ)) = some (t201 κ) := by
  have h : ((List.range 21).all fun κ => ((insP 201 9).bind fun q => tv_sw q.1 9 (i32 κ)) == some (t201 κ)) = true := by decide +kernel
  intro κ hκ
  exact eq_of_beq (List.all_eq_true.mp h κ (List.mem_range.mpr hκ))
section CODELEAF
variable {L : Nat} {xs : Nat → Int32} {σ σ' σ0 τ0 : tvS} {K1 K2 N f a n : Nat} {C : tG} {c : Nat → Nat} {cf : Int} {D : pgD} {G : sgD} {rg : rgD} {cd : cdD} {m : Nat} {cp : Nat → List (Nat × Nat)} {dp : Nat → Nat}
theorem CEN.up (hE : CEN D G rg cd m N c cp dp σ0 τ0) (hf : f ≤ D.fc) : D.bP (f + 1) ≤ D.bP (D.fc + 1) ∧ D.tV (f + 1) ≤ D.tV (D.fc + 1) ∧ D.bF (f + 1) ≤ D.bF (D.fc + 1) ∧ D.bP (D.fc + 1) ≤ 4001 ∧ D.fc ≤ 20 ∧ D.tV (D.fc + 1) ≤ 3000 := by
  obtain ⟨hF, _⟩ := hE
  have u := hF.up (D.fc + 1 - (f + 1)) (f + 1) (by omega)
  rw [show f + 1 + (D.fc + 1 - (f + 1)) = D.fc + 1 by omega] at u
  have := hF.1
  exact ⟨u.1, u.2.1, u.2.2.1, by omega, by omega, by omega⟩
/-- which way -/
theorem in_go {p : Nat} (hE : CEN D G rg cd m N c cp dp σ0 τ0) (hf : f ≤ D.fc) (h1 : D.bP f ≤ p) (h2 : p < D.bP (f + 1)) (hC : CDS K1 K2 N C c f cf a σ0 σ) (x2 : Int32) (d : Nat) : rn L xs (d + 1) 201 0 [.ref 94, .int (i32 (p : Int)), .int x2] [] σ = rn L xs (d + 1) 201 (t201 (D.K p)) [.ref 94, .int (i32 (p : Int)), .int x2] [] σ := by
  obtain ⟨u1, _, _, u4, _⟩ := hE.up hf
  have hR := hE.2.1
  have hk := ((hE.1.2.2 f hf).2.2.1 p h1 h2).1.1
  rw [e201_0, c_in (by omega) (by omega) (by omega), i32_ixn (by omega), hC.2.2.2.2.2.2.1.1 16 rfl, (hR.2 p (by omega)).1.1, swk_of (sw201 (D.K p) (by omega))]
theorem in_num {p : Nat} (hE : CEN D G rg cd m N c cp dp σ0 τ0) (hf : f ≤ D.fc) (h1 : D.bP f ≤ p) (h2 : p < D.bP (f + 1)) (hk : D.K p = 0) (hC : CDS K1 K2 N C c f cf a σ0 σ) (ha : a + 10 ≤ 131000) (x2 : Int32) (d : Nat) :
    ∃ σ', rn L xs (d + 3) 201 0 [.ref 94, .int (i32 (p : Int)), .int x2] [] σ = some (.inl none, σ') ∧ CDS K1 K2 N C c f cf (a + 2) σ0 σ' ∧ rd σ' 95 a = 3 ∧ rd σ' 95 (a + 1) = cd.vw p ∧ CEX cd.sl a σ σ' := by
  obtain ⟨u1, _, _, u4, _⟩ := hE.up hf
  have hw := (hE.2.2.2.2.2.1.2 p (by omega)).1 hk
  obtain ⟨s1, a1, a2, a3, a4, a5, _⟩ := put_two (L := L) (xs := xs) (sl := cd.sl) hC (by omega) 3 (cd.vw p) d
  refine ⟨s1, ?_, a2, a3, a4, a5⟩
  rw [in_go hE hf h1 h2 hC x2 (d + 2), hk]
  show rn L xs (d + 3) 201 108 _ [] σ = _
  rw [e201_108 (d + 2), c_in (by omega) (by omega) (by omega), i32_ixn (by omega), hC.2.2.2.2.2.2.1.1 27 rfl, hw, bV_ok a1, e201_352]
theorem in_nil {p : Nat} (hE : CEN D G rg cd m N c cp dp σ0 τ0) (hf : f ≤ D.fc) (h1 : D.bP f ≤ p) (h2 : p < D.bP (f + 1)) (hk : D.K p = 1) (hC : CDS K1 K2 N C c f cf a σ0 σ) (ha : a + 10 ≤ 131000) (x2 : Int32) (d : Nat) :
    ∃ σ', rn L xs (d + 2) 201 0 [.ref 94, .int (i32 (p : Int)), .int x2] [] σ = some (.inl none, σ') ∧ CDS K1 K2 N C c f cf (a + 1) σ0 σ' ∧ rd σ' 95 a = 4 ∧ CEX cd.sl a σ σ' := by
  obtain ⟨s1, a1, a2, a3, a4, _⟩ := put_code (L := L) (xs := xs) (sl := cd.sl) hC (by omega) 4 d
  refine ⟨s1, ?_, a2, a3, a4⟩
  rw [in_go hE hf h1 h2 hC x2 (d + 1), hk]
  show rn L xs (d + 2) 201 125 _ [] σ = _
  rw [e201_125 (d + 1), bV_ok a1, e201_352]
/-- where a variable is: on the stack, or caught -/
theorem capof {v j : Nat} (hE : CEN D G rg cd m N c cp dp σ0 τ0) (hC : CDS K1 K2 N C c f cf a σ0 σ) (hj : j < D.bF (D.fc + 1)) (hv : v < 3000) (hm : v ∈ cd.cg j) (d : Nat) : rn L xs (d + 1) 74 0 [.ref 15, .int (i32 (j : Int)), .int (i32 (v : Int)), jv, jv] [] σ = some (.inl (some (.int (i32 ((cd.cg j).idxOf v : Int)))), σ) := by
  obtain ⟨hF, _, _, _, hGC, _, hcg, _⟩ := hE
  have hb := hF.1
  obtain ⟨e1, _⟩ := hcg j hj
  obtain ⟨g1, g2, g3, _⟩ := hGC
  obtain ⟨k1, k2, k3⟩ := g3 j hj
  have w := hC.2.2.2.2.2.2.1
  have hcl : capL σ (cp j) (rd σ 37 j) := by
    rw [w.1 37 rfl]
    exact capL.congr _ _ k1 (fun q _ => ⟨w.1 40 rfl _, w.1 41 rfl _⟩)
  rw [e1] at hm
  have := capof_loop (L := L) (xs := xs) (σ := σ) (v := v) (by omega) ⟨by rw [(w.2.2 41 rfl).1, (w.2.2 40 rfl).1]; exact g2.1, by rw [(w.2.2 40 rfl).1]; exact g2.2⟩ (.int (i32 (j : Int))) d (cp j) 0 (rd σ 37 j) hcl (fun e he => by rw [(w.2.2 40 rfl).1]; exact k3 e he) hm (by omega)
  rw [Nat.zero_add, ← e1] at this
  rw [e74_0, c_in (by omega) (by omega) (by omega), i32_ixn (by omega)]
  exact this
theorem in_var {p : Nat} (hE : CEN D G rg cd m N c cp dp σ0 τ0) (hf : f ≤ D.fc) (h1 : D.bP f ≤ p) (h2 : p < D.bP (f + 1)) (hk : D.K p = 2) (hfn : cd.fn D p = cf) (hC : CDS K1 K2 N C c f cf a σ0 σ) (hS : SLS D cd cf p σ) (ha : a + 10 ≤ 131000) (x2 : Int32) (d : Nat) :
    ∃ σ', rn L xs (d + 4) 201 0 [.ref 94, .int (i32 (p : Int)), .int x2] [] σ = some (.inl none, σ') ∧ CDS K1 K2 N C c f cf (a + 2) σ0 σ' ∧ ((cd.vo (D.vl p) = cf ∧ rd σ' 95 a = 5 ∧ rd σ' 95 (a + 1) = i32 (cd.sl (D.vl p) : Int)) ∨ (cd.vo (D.vl p) ≠ cf ∧ rd σ' 95 a = 6 ∧ rd σ' 95 (a + 1) = i32 (cd.ci cf (D.vl p) : Int))) ∧ CEX cd.sl a σ σ' := by
  obtain ⟨u1, u2, u3, u4, u5, u6⟩ := hE.up hf
  have hR := hE.2.1
  have hp := (hE.1.2.2 f hf).2.2.1 p h1 h2
  have hsl := hp.2.2.2.2.1 hk
  have w := hC.2.2.2.2.2.2.1
  have r27 := ((hR.2 p (by omega)).2.2.2.2.1 (.inl hk)).1
  obtain ⟨v1, v2, v3⟩ := hE.2.2.2.2.2.2.2.2.2.1 p (D.vl p) (by omega) hsl
  obtain ⟨o1, o2, o3⟩ := hE.2.2.2.2.2.1.1 (D.vl p) v1
  have r31 : rd σ 31 (D.vl p) = i32 (cd.vo (D.vl p)) := by rw [w.1 31 rfl]; exact o1
  have hcf : -1 ≤ cf ∧ cf < 4101 := by
    by_cases q : cd.vo (D.vl p) = cf
    · omega
    · have := v2 (by rw [hfn]; exact q)
      have hb := hE.1.1
      rw [hfn] at this; omega
  have go : ∀ s : tvS, rn L xs (d + 3) 202 0 [.ref 94, .int (i32 (D.vl p : Int))] [] σ = some (.inl none, s) → rn L xs (d + 4) 201 0 [.ref 94, .int (i32 (p : Int)), .int x2] [] σ = some (.inl none, s) := fun s hs => by
    rw [in_go hE hf h1 h2 hC x2 (d + 3), hk]
    show rn L xs (d + 4) 201 133 _ [] σ = _
    rw [e201_133 (d + 3), c_in (by omega) (by omega) (by omega), i32_ixn (by omega), w.1 27 rfl, r27, bV_ok hs, e201_352]
  by_cases q : cd.vo (D.vl p) = cf
  · obtain ⟨s1, a1, a2, a3, a4, a5, _⟩ := put_two (L := L) (xs := xs) (sl := cd.sl) hC (by omega) 5 (i32 (cd.sl (D.vl p) : Int)) (d + 0)
    refine ⟨s1, go s1 ?_, a2, .inl ⟨q, a3, a4⟩, a5⟩
    rw [e202_0 (d + 2), c_in (by omega) (by omega) (by omega), i32_ixn (by omega), r31, hC.2.2.2.2.2.1, c2_ne (by omega) (by omega) (by omega) (by omega), c_f (by omega), c_in (by omega) (by omega) (by omega), hS _ hsl q]
    have a1' : rn L xs (d + 2) 200 0 [.ref 94, .int 5, .int (i32 (cd.sl (D.vl p) : Int))] [] σ = some (.inl none, s1) := a1
    rw [bV_ok a1', e202_48]
  · obtain ⟨j1, j2⟩ := v2 (by rw [hfn]; exact q)
    have hm := v3 hk rfl (by rw [hfn]; exact q)
    rw [hfn] at j1 j2 hm
    obtain ⟨s1, a1, a2, a3, a4, a5, _⟩ := put_two (L := L) (xs := xs) (sl := cd.sl) hC (by omega) 6 (i32 (cd.ci cf (D.vl p) : Int)) (d + 0)
    refine ⟨s1, go s1 ?_, a2, .inr ⟨q, a3, a4⟩, a5⟩
    have hc := capof (L := L) (xs := xs) hE hC (j := cf.toNat) (v := D.vl p) (by omega) (by omega) hm (d + 1)
    have a1' : rn L xs (d + 2) 200 0 [.ref 94, .int 6, .int (i32 ((cd.cg cf.toNat).idxOf (D.vl p) : Int))] [] σ = some (.inl none, s1) := a1
    rw [e202_0 (d + 2), c_in (by omega) (by omega) (by omega), i32_ixn (by omega), r31, hC.2.2.2.2.2.1, c2_ne (by omega) (by omega) (by omega) (by omega), c_t (by omega), e202_30 (d + 2), hC.2.2.2.2.2.1, show cf = ((cf.toNat : Nat) : Int) by omega, bI_ok hc, bV_ok a1', e202_48]
end CODELEAF
