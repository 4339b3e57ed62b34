/-! CODE: closures -/
section CODEFN
variable {L : Nat} {xs : Nat → Int32} {σ σ' σ0 τ0 : tvS} {K1 K2 N f a n : Nat} {C : tG} {c : Nat → Nat} {cf : Int} {D : pgD} {G : sgD} {rg : rgD} {cd : cdD} {m : Nat} {cp : Nat → List (Nat × Nat)} {dp : Nat → Nat}
/-- where a caught variable is found -/
def CGW (cd : cdD) (cf : Int) (R : Nat → Int32) (v a : Nat) : Prop := (cd.vo v = cf ∧ R a = 0 ∧ R (a + 1) = i32 (cd.sl v : Int)) ∨ (cd.vo v ≠ cf ∧ R a = 1 ∧ R (a + 1) = i32 (cd.ci cf v : Int))
theorem cl_loop {p : Nat} (hE : CEN D G rg cd m N c cp dp σ0 τ0) (hf : f ≤ D.fc) (h1 : D.bP f ≤ p) (h2 : p < D.bP (f + 1)) (hfn : cd.fn D p = cf) (hcf : -1 ≤ cf ∧ cf < 4101) (d : Nat) : ∀ (l : List (Nat × Nat)) (a : Nat) (σ : tvS) (x3 : Int32) (v1 v2 v4 v5 : Value), capL σ0 l x3 → (∀ e, e ∈ l → e.1 < ln σ0 40 ∧ e.2 < 4101) → (∀ v, v ∈ l.map Prod.snd → v ∈ D.sl p ∧ (cd.vo v ≠ cd.fn D p → v ∈ cd.cg (cd.fn D p).toNat)) → CDS K1 K2 N C c f cf a σ0 σ → SLS D cd cf p σ → a + 2 * l.length + 10 ≤ 131000 →
    ∃ (σ' : tvS), rn L xs (d + 3) 206 36 [.ref 94, v1, v2, .int x3, v4, v5] [] σ = some (.inl none, σ') ∧ CDS K1 K2 N C c f cf (a + 2 * l.length) σ0 σ' ∧ (∀ i, i < l.length → CGW cd cf (rd σ' 95) ((l.map Prod.snd).getD i 0) (a + 2 * i)) ∧ CEX cd.sl a σ σ' := by
  obtain ⟨u1, u2, u3, u4, u5, u6⟩ := hE.up hf
  have g2 := hE.2.2.2.2.1.2.1
  intro l
  induction l with
  | nil =>
    intro a σ x3 v1 v2 v4 v5 hc _ _ hC _ _
    have hc : x3 = i32 (-1) := hc
    refine ⟨σ, ?_, hC, fun i hi => (by cases hi), CEX.refl⟩
    rw [e206_36, hc, i32_raw, c2_refl, e206_131]
  | cons e l ih =>
    intro a σ x3 v1 v2 v4 v5 hc hl hv hC hS hz
    obtain ⟨c1, c2, c3⟩ := hc
    obtain ⟨l1, l2⟩ := hl e List.mem_cons_self
    have hlen : (e :: l).length = l.length + 1 := rfl
    have w := hC.2.2.2.2.2.2.1
    obtain ⟨s1, s2⟩ := hv e.2 (by rw [List.map_cons]; exact List.mem_cons_self)
    obtain ⟨t1, t2, _⟩ := hE.2.2.2.2.2.2.2.2.2.1 p e.2 (by omega) s1
    obtain ⟨o1, o2, o3⟩ := hE.2.2.2.2.2.1.1 e.2 t1
    have r31 : rd σ 31 e.2 = i32 (cd.vo e.2) := by rw [w.1 31 rfl]; exact o1
    have r40 : rd σ 40 e.1 = i32 (e.2 : Int) := by rw [w.1 40 rfl]; exact c2
    have l40 := (w.2.2 40 rfl).1
    have l41 := (w.2.2 41 rfl).1
    -- the word pair
    have step : ∃ (x y : Int32) (s : tvS) (q1 q2 q4 q5 : Value), (cd.vo e.2 = cf ∧ x = 0 ∧ y = i32 (cd.sl e.2 : Int) ∨ cd.vo e.2 ≠ cf ∧ x = 1 ∧ y = i32 (cd.ci cf e.2 : Int)) ∧ rn L xs (d + 3) 206 36 [.ref 94, v1, v2, .int x3, v4, v5] [] σ = rn L xs (d + 3) 206 115 [.ref 94, q1, q2, .int x3, q4, q5] [.int y, .int x, .ref 94] σ := by
      have e36 : ∀ K : Prop, True → rn L xs (d + 3) 206 36 [.ref 94, v1, v2, .int x3, v4, v5] [] σ = cond (decide (cd.vo e.2 ≠ cf)) (rn L xs (d + 3) 206 73 [.ref 94, v1, v2, .int x3, .int (i32 (e.2 : Int)), v5] [] σ) (rn L xs (d + 3) 206 74 [.ref 94, v1, v2, .int x3, .int (i32 (e.2 : Int)), v5] [.int 1] σ) := fun _ _ => by
        rw [e206_36 (d + 2), c1, i32_raw, c2_eq (by omega) (by omega) (by omega) (by omega), c_f (by omega), l40, c_in (by omega) (by omega) (by omega), i32_ixn (by omega), r40, c_in (by omega) (by omega) (by omega), i32_ixn (by omega), r31, hC.2.2.2.2.2.1, c2_ne (by omega) (by omega) (by omega) (by omega)]
      by_cases q : cd.vo e.2 = cf
      · refine ⟨0, i32 (cd.sl e.2 : Int), σ, v1, v2, .int (i32 (e.2 : Int)), .int 1, .inl ⟨q, rfl, rfl⟩, ?_⟩
        rw [e36 True trivial, decide_eq_false (fun h => h q), cond_false, e206_74 (d + 2), show pv_c1 .eq (1 : Int32) = false from rfl, cond_false, e206_87 (d + 2), show pv_c1 .eq (1 : Int32) = false from rfl, cond_false, c_in (by omega) (by omega) (by omega), i32_ixn (by omega), hS e.2 s1 q]
      · obtain ⟨j1, j2⟩ := t2 (by rw [hfn]; exact q)
        have hm := s2 (by rw [hfn]; exact q)
        rw [hfn] at j1 j2 hm
        have hcp := capof (L := L) (xs := xs) hE hC (j := cf.toNat) (v := e.2) (by omega) (by omega) hm (d + 1)
        rw [show ((cf.toNat : Nat) : Int) = cf by omega] at hcp
        refine ⟨1, i32 (cd.ci cf e.2 : Int), σ, dj v1, dj v2, .int (i32 (e.2 : Int)), dj (.int 0), .inr ⟨q, rfl, rfl⟩, ?_⟩
        rw [e36 True trivial, decide_eq_true q, cond_true, e206_73 (d + 2), e206_74 (d + 2), show pv_c1 .eq (0 : Int32) = true from rfl, cond_true, e206_86 (d + 2), e206_87 (d + 2), show pv_c1 .eq (0 : Int32) = true from rfl, cond_true, e206_102 (d + 2), hC.2.2.2.2.2.1, bI_ok hcp]
        rfl
    obtain ⟨x, y, _, q1, q2, q4, q5, hxy, hrun⟩ := step
    obtain ⟨s, b1, b2, b3, b4, b5, b6⟩ := put_two (L := L) (xs := xs) (sl := cd.sl) hC (by omega) x y d
    have ws := b2.2.2.2.2.2.2.1
    obtain ⟨s', z1, z2, z3, z4⟩ := ih (a + 2) s (rd σ0 41 e.1) (dj q1) (jk (dj q2)) (dj q4) (dj q5) c3 (fun e' he => hl e' (List.mem_cons_of_mem _ he)) (fun v hv' => hv v (by rw [List.map_cons]; exact List.mem_cons_of_mem _ hv')) b2 (hS.go b5) (by omega)
    refine ⟨s', ?_, ?_, fun i hi => ?_, b5.trans z4 (by omega)⟩
    · have b1' : rn L xs (d + 2) 200 0 [.ref 94, .int x, .int y] [] σ = some (.inl none, s) := b1
      rw [hrun, e206_115 (d + 2), bV_ok b1', (ws.2.2 41 rfl).1, c1, g2.1, c_in (by omega) (by omega) (by omega), i32_ixn (by omega), ws.1 41 rfl]
      exact z1
    · rw [hlen, show a + 2 * (l.length + 1) = a + 2 + 2 * l.length by omega]; exact z2
    · cases i with
      | zero =>
        show CGW cd cf (rd s' 95) e.2 (a + 2 * 0)
        rw [Nat.mul_zero, Nat.add_zero]
        unfold CGW
        rw [z4.1 a (by omega), z4.1 (a + 1) (by omega), b3, b4]
        rcases hxy with ⟨k1, k2, k3⟩ | ⟨k1, k2, k3⟩
        · exact .inl ⟨k1, k2, k3⟩
        · exact .inr ⟨k1, k2, k3⟩
      | succ i =>
        have := z3 i (by have : i + 1 < l.length + 1 := hi; omega)
        rw [show a + 2 * (i + 1) = a + 2 + 2 * i by omega]
        exact this
theorem in_fn {p : Nat} (hE : CEN D G rg cd m N c cp dp σ0 τ0) (hf : f ≤ D.fc) (h1 : D.bP f ≤ p) (h2 : p < D.bP (f + 1)) (hfn : cd.fn D p = cf) (hcf : -1 ≤ cf ∧ cf < 4101) (hk : D.K p = 17) (hC : CDS K1 K2 N C c f cf a σ0 σ) (hS : SLS D cd cf p σ) (ha : a + 100 ≤ 131000) (x2 : Int32) (d : Nat) :
    ∃ σ', rn L xs (d + 5) 201 0 [.ref 94, .int (i32 (p : Int)), .int x2] [] σ = some (.inl none, σ') ∧ CDS K1 K2 N C c f cf (a + 3 + 2 * (cd.cg (D.vl p)).length) σ0 σ' ∧ (cd.cg (D.vl p)).length ≤ 40 ∧ rd σ' 95 a = 9 ∧ rd σ' 95 (a + 1) = i32 (rg.nu p 0 : Int) ∧ rd σ' 95 (a + 2) = i32 (D.vl p : Int) ∧ (∀ i, i < (cd.cg (D.vl p)).length → CGW cd cf (rd σ' 95) ((cd.cg (D.vl p)).getD i 0) (a + 3 + 2 * i)) ∧ CEX cd.sl a σ σ' := by
  obtain ⟨u1, u2, u3, u4, u5, u6⟩ := hE.up hf
  have hp := (hE.1.2.2 f hf).2.2.1 p h1 h2
  have hvl := hp.2.2.2.2.2.2.1 hk
  have hbF := hE.1.1
  obtain ⟨e1, e2⟩ := hE.2.2.2.2.2.2.1 (D.vl p) (by omega)
  obtain ⟨g1, g2, g3, _⟩ := hE.2.2.2.2.1
  obtain ⟨k1, k2, k3⟩ := g3 (D.vl p) (by omega)
  have hlen : (cd.cg (D.vl p)).length = (cp (D.vl p)).length := by rw [e1, List.length_map]
  have w := hC.2.2.2.2.2.2.1
  have r27 : rd σ 27 p = i32 (D.vl p : Int) := by rw [w.1 27 rfl]; exact ((hE.2.1.2 p (by omega)).2.2.2.2.2.1 hk).1
  obtain ⟨s1, a1, a2, a3⟩ := num_part (L := L) (xs := xs) hE hf h1 h2 (by omega) hC d
  obtain ⟨s2, b1, b2, b3, b4, b5, b6⟩ := put_two (L := L) (xs := xs) (sl := cd.sl) a2 (by omega) 9 (i32 (rg.nu p 0 : Int)) (d + 1)
  obtain ⟨s3, c1, c2, c3, c4, c5⟩ := put_code (L := L) (xs := xs) (sl := cd.sl) b2 (by omega) (i32 (D.vl p : Int)) (d + 2)
  have hx : CEX cd.sl a σ s3 := ((CEX.W (a := a) a3).trans b5 (Nat.le_refl _)).trans c4 (by omega)
  obtain ⟨s4, z1, z2, z3, z4⟩ := cl_loop (L := L) (xs := xs) hE hf h1 h2 hfn hcf (d + 1) (cp (D.vl p)) (a + 3) s3 (rd σ0 37 (D.vl p)) (.int (i32 (p : Int))) (.int (i32 (D.vl p : Int))) (dj (dj (dj jv))) (dj (dj (dj jv))) k1 k3 (fun v hv => hE.2.2.2.2.2.2.2.2.2.2 p v (by omega) hk (by rw [e1]; exact hv)) c2 (hS.go hx) (by omega)
  refine ⟨s4, ?_, by rw [hlen]; exact z2, by rw [hlen]; exact k2, ?_, ?_, ?_, fun i hi => ?_, hx.trans z4 (by omega)⟩
  · have p206 : rn L xs (d + 4) 206 0 [.ref 94, .int (i32 (p : Int)), jv, jv, jv, jv] [] σ = some (.inl none, s4) := by
      rw [e206_0 (d + 3), c_in (by omega) (by omega) (by omega), bI_ok a1, bV_ok b1, i32_ixn (by omega), r27, bV_ok c1, c_in (by omega) (by omega) (by omega), i32_ixn (by omega), c2.2.2.2.2.2.2.1.1 37 rfl]
      exact z1
    rw [in_go hE hf h1 h2 hC x2 (d + 4), hk]
    show rn L xs (d + 5) 201 250 _ [] σ = _
    rw [e201_250 (d + 4), bV_ok p206, e201_352]
  · rw [z4.1 a (by omega), c4.1 a (by omega)]; exact b3
  · rw [z4.1 (a + 1) (by omega), c4.1 (a + 1) (by omega)]; exact b4
  · rw [z4.1 (a + 2) (by omega)]; exact c3
  · have := z3 i (by rw [← hlen]; exact hi)
    rw [e1]
    exact this
end CODEFN
