/-! READING: one becomes one; leaves -/
section UNA
variable {L : Nat} {xs : Nat → Int32} {K1 K2 m : Nat} {μ : Nat → Nat} {g fc : Nat} {sc : List Nat} {fs fs' : List (Nat × Nat × List Nat)} {F D H n A P r r0 : Nat} {σ τ σ' τ' σ1 τ1 : tvS}
theorem mone {c1 s1 : Nat} (hr : rd τ 123 22 = i32 (r + 1 : Nat)) (hr2 : r + 1 ≤ 6000) (hP : rd τ 123 46 = i32 P) (hlt : P < 6000) (h1 : rd τ 135 r = i32 c1) (hc1 : c1 < P) (e1 : rd τ 161 c1 = i32 s1) (hs : s1 ≤ c1) (x f w : Int32) : ∃ τ1, nodM τ τ1 P x f (rd τ 137 r) s1 [c1] ∧ rd τ1 154 P = i32 c1 ∧ rd τ1 155 P = i32 (-1) ∧ rd τ1 156 P = i32 (-1) ∧ rd τ1 157 P = w ∧
    ∀ (d : Nat) (K : Int32 → tvS → tvR), cond (pv_in ((rd τ 123 22) - 1) 6000) (bI (rn L xs (d + 2) 313 0 [.ref 123, .int x, .int f, .int (rd τ 137 (ix ((rd τ 123 22) - 1))), jv] [] τ) (fun a2 s1 => cond (pv_in a2 6000) (bI (rn L xs (d + 2) 326 0 [.ref 123, .int 1] [] (wr s1 157 (ix a2) w)) (fun a4 s3 => cond (pv_in a2 6000) (cond (pv_in a2 6000) (bV (rn L xs (d + 2) 323 0 [.ref 123, .int a2, .int (rd (wr s3 154 (ix a2) a4) 154 (ix a2))] [] (wr s3 154 (ix a2) a4)) (fun s5 => K a2 s5) X0) none) none) X0) none) X0) none = K (i32 P) τ1 := by
  have z := ((nodM.zero (τ := τ) (P := P) (κ := x) (f := f) (l := rd τ 137 r)).wr (j := 157) (v := w) (by omega) (by omega)).wr (j := 154) (v := i32 c1) (by omega) (by omega)
  generalize ht : wr (wr (mNew τ P x f (rd τ 137 r)) 157 P w) 154 P (i32 c1) = τ0 at z
  have q1 : rd τ0 154 P = i32 c1 := by rw [← ht, rd_wr, if_pos ⟨rfl, rfl⟩]
  have q2 : rd τ0 155 P = i32 (-1) := by rw [← ht, wr_nek (by omega), wr_nek (by omega)]; exact mNew_at.2.2.2.2.1
  have q3 : rd τ0 156 P = i32 (-1) := by rw [← ht, wr_nek (by omega), wr_nek (by omega)]; exact mNew_at.2.2.2.2.2.1
  have q4 : rd τ0 157 P = w := by rw [← ht, wr_nek (by omega), rd_wr, if_pos ⟨rfl, rfl⟩]
  have u1 : ∀ d, rn L xs (d + 1) 323 0 [.ref 123, .int (i32 P), .int (i32 c1)] [] τ0 = some (.inl none, mUnd τ0 P c1 (min P s1)) := fun d => mund_ok (by omega) (by omega) (by omega) z.2.2.1.2.2.2.2.2.2.1 ((z.1 161 c1 (by omega) (by simp) (by omega)).trans e1) (by omega) (by omega) d
  have z1 := z.add (c := c1) (by omega) (by simp) (st' := s1)
  rw [show min P s1 = s1 by omega] at u1
  refine ⟨_, z1, ?_, ?_, ?_, ?_, fun d K => ?_⟩
  · rw [mUnd_oth (by omega) (by omega)]; exact q1
  · rw [mUnd_oth (by omega) (by omega)]; exact q2
  · rw [mUnd_oth (by omega) (by omega)]; exact q3
  · rw [mUnd_oth (by omega) (by omega)]; exact q4
  · have w22 : rd (wr (mNew τ P x f (rd τ 137 r)) 157 P w) 123 22 = i32 (r + 1 : Nat) := (wr_nek (by omega)).trans ((mNew_oth (by omega) (by omega)).trans hr)
    have w135 : rd (wr (mNew τ P x f (rd τ 137 r)) 157 P w) 135 r = i32 c1 := (wr_nek (by omega)).trans ((mNew_oth (by omega) (by omega)).trans h1)
    rw [hr, i32_s1 (by omega), show r + 1 - 1 = r by omega, c_in (by omega) (by omega) (by omega), i32_ixn (by omega), bI_ok (mnew_ok hP hlt (d + 1) x _ _), c_in (by omega) (by omega) (by omega), i32_ixn (by omega), bI_ok (mchild (x := 1) (k := 1) rfl w22 (by omega) (by omega) (by omega) (d + 1)), show r + 1 - 1 = r by omega, w135, c_in (by omega) (by omega) (by omega), c_in (by omega) (by omega) (by omega), ht, q1, bV_ok (u1 (d + 1))]
theorem una_ok {κ A0 A2 P0 p H' : Nat} {b : Int32} (hST : ST K1 K2 m μ g fc sc fs D H (n + 1) A2 P (r + 1) σ τ) (hT1 : PT P0 p σ) (hp1 : p + 1 = P) (hκ : κ = 5 ∧ b = 14 ∨ κ = 6 ∧ b = 15)
    (hr1 : rd τ 135 r = i32 p) (hr3 : rd τ 137 r = i32 (A2 - 1 : Nat)) (hI : IT τ n 23 (i32 A0) b) (hA : A0 < A2) (hw : P + 1 ≤ wch μ A2)
    (nC : nodC σ σ1 P κ (i32 A0) (i32 (A2 - 1 : Nat)) (rd σ 62 5) P0 [p]) (hxC : xC σ1 σ' P) (e8 : rd σ' 62 8 = i32 A0) (e9 : rd σ' 62 9 = i32 (A2 - 1 : Nat)) (e3 : rd σ' 62 3 = i32 A2) (e4 : rd σ' 62 4 = i32 D) (e11 : rd σ' 62 11 = i32 H') (hH : H' ≤ 3 * A2) (h63 : ∀ i, i < H' → rd σ' 63 i = rd σ 63 i) (hR : RF A0 P0 P σ) :
    ∃ τ', mS L xs τ τ' ∧ ST K1 K2 m μ g fc sc fs D H' n A2 (P + 1) (r + 1) σ' τ' ∧ TOP A0 P0 A2 (P + 1) r σ' τ' ∧ OLD n r H' P0 σ τ σ' τ' := by
  obtain ⟨o1, o2, o3, o4, ⟨o5, o5'⟩, o6, ⟨s1, s2, s3, s4, s5, s6, s7, s8, s9, s10, s11, s12⟩, o8, o9, o10⟩ := hST.all
  obtain ⟨t1, t2, t3, t4, t5, t6⟩ := hT1
  have hSTp := hST.pop
  generalize hτp : wr τ 123 18 (i32 n) = τp at hSTp
  have hp : ∀ j i, ¬ (j = 123 ∧ i = 18) → rd τp j i = rd τ j i := fun j i h => by rw [← hτp, rd_wr, if_neg h]
  obtain ⟨τ1, y2, y3, y4, y5, y6, y1⟩ := mone (L := L) (xs := xs) (τ := τp) (r := r) (P := P) (c1 := p) (s1 := P0) ((hp _ _ (by omega)).trans s7) (by omega) ((hp _ _ (by omega)).trans o5') (by omega) ((hp _ _ (by omega)).trans hr1) (by omega) (hSTp.s161 (by omega) t2) (by omega) 6 (i32 A0) b
  have hk : contK σ P0 [p] P := ⟨t2, t1, by omega, hp1⟩
  have hkids : ∀ w, w < 3 → rd σ' (20 + w) P = kid [p] w := fun w hw => by rw [hxC.1 (20 + w) P (by omega) (scC_lo (by omega))]; exact nC.2.2.2.1 w hw
  have hs22 : rd τ1 123 22 = i32 (r + 1 : Nat) := (y2.2.1 123 22 (by omega) (by omega)).trans ((hp _ _ (by omega)).trans s7)
  have hb : ∀ j i, ¬ (135 ≤ j ∧ j ≤ 137 ∧ i = r) → ¬ (j = 123 ∧ i = 22) → rd (mBec τ1 r P) j i = rd τ1 j i := fun j i h1 h2 => mBec_oth h1 h2
  have hbn : ∀ j i, ¬ (135 ≤ j ∧ j ≤ 137 ∧ i = r) → ¬ (j = 123 ∧ (i = 22 ∨ i = 46)) → ¬ (151 ≤ j ∧ j ≤ 163) → rd (mBec τ1 r P) j i = rd τp j i := fun j i h1 h2 h3 => (hb j i h1 (by omega)).trans (y2.2.1 j i h3 (by omega))
  obtain ⟨b1, b2, b3, b4⟩ := mBec_at (τ := τ1) (r := r) (P := P)
  have hmS : mS L xs τ (mBec τ1 r P) := by
    refine nx s6 (by omega) o3 hI (pc := 355) (by decide +kernel) (fun dm => ?_)
    rw [hτp, e310_355 (dm + 7), bV_ok (r := rn L xs (dm + 7) 324 0 _ _ _) (σ := mBec τ1 r P), e310_362]
    rw [e324_0 (dm + 6), swk_of (p := 185) (by decide +kernel), e324_185 (dm + 6), y1 (dm + 4) (fun a2 s5 => bV (rn L xs (dm + 6) 327 0 [.ref 123, .int a2, .int 1] [] s5) (fun s6 => rn L xs (dm + 6 + 1) 324 323 [.ref 123, (dj (dj (dj (dj (.int (i32 (23 : Nat))))))), .int (i32 A0), .int b, .int a2] [] s6) X0), bV_ok (mbec (x := 1) (k := 1) rfl hs22 (by omega) (by omega) (dm + 4)), e324_323]
  have v1 : rd (mBec τ1 r P) 154 P = rd σ' 20 P := by rw [hb 154 P (by omega) (by omega), y3]; exact (hkids 0 (by omega)).symm
  have v2 : rd (mBec τ1 r P) 155 P = rd σ' 21 P := by rw [hb 155 P (by omega) (by omega), y4]; exact (hkids 1 (by omega)).symm
  have v3 : rd (mBec τ1 r P) 156 P = rd σ' 22 P := by rw [hb 156 P (by omega) (by omega), y5]; exact (hkids 2 (by omega)).symm
  have z2 : rd τ1 152 P = i32 A0 := y2.2.2.1.2.1
  have z3 : rd τ1 153 P = i32 (A2 - 1 : Nat) := (y2.2.2.1.2.2.1).trans ((hp _ _ (by omega)).trans hr3)
  have hmk : (6 : Int32) = i32 (mKd κ) := by rcases hκ with ⟨e, _⟩ | ⟨e, _⟩ <;> rw [e] <;> rfl
  rw [hmk] at y2
  obtain ⟨w1, w2⟩ := hSTp.node (κ := κ) (a := A0) (b := A2 - 1) (st := P0) (kids := [p]) (r0 := r) (D' := D) (H' := H') (n' := n) (A' := A2) (σ' := σ') (τ' := mBec τ1 r P) (by omega) (by omega) (by omega) (by omega) nC y2 hxC
    (fun j i h1 h2 => by
      by_cases h3 : j = 123 ∧ i = 22
      · rw [h3.1, h3.2] at h2; cases h2
      · exact hb j i (fun q => by
          have : rgN 132 138 j = true := by unfold rgN; rw [Nat.ble_eq_true_of_le (by omega), Nat.blt_eq.mpr (by omega)]; rfl
          unfold scM at h2; rw [this] at h2; cases h2) h3)
    hk (fun c hc => by rw [List.mem_singleton.mp hc]; exact t3)
    ((hb 152 P (by omega) (by omega)).trans z2) ((hb 153 P (by omega) (by omega)).trans z3) (by omega) (by omega) (fun e => by omega) (nnR_no (by omega) (by omega) (by omega) (by omega))
    ⟨fun q => absurd q (by omega), fun q => by rw [hb 157 P (by omega) (by omega), y6]; rcases hκ with ⟨_, e⟩ | ⟨_, e⟩ <;> first | (rw [e]; rfl) | omega, fun q => by rw [hb 157 P (by omega) (by omega), y6]; rcases hκ with ⟨_, e⟩ | ⟨_, e⟩ <;> first | (rw [e]; rfl) | omega, fun q1 q2 => absurd q1 (by omega), fun q => absurd q (by omega), fun q => absurd q (by omega), fun q => absurd q (by omega), fun q => absurd q (by omega), fun _ => ⟨v1, v2, v3, hkids⟩, fun q => absurd q (by omega)⟩
    (fun w c hw2 => by rw [scl_no (by omega) (by omega) (by omega), List.mem_singleton.mp (List.mem_of_getElem? hw2), t6]; exact hSTp.ch) (ownR_no (by omega) (by omega) (by omega)) (by rcases hκ with ⟨e, _⟩ | ⟨e, _⟩ <;> rw [e] <;> rfl)
    (Nat.le_refl _) s8 s9 hH (by omega) hw e3 ((hbn _ _ (by omega) (by omega) (by omega)).trans ((hp _ _ (by omega)).trans s2)) e4 ((hbn _ _ (by omega) (by omega) (by omega)).trans ((hp _ _ (by omega)).trans s4)) e11 ((hbn _ _ (by omega) (by omega) (by omega)).trans (by rw [← hτp, rd_wr, if_pos ⟨rfl, rfl⟩])) b4
  refine ⟨_, hmS, w1, ⟨⟨hA, RF.node nC hxC (by omega) hR⟩, by omega, e8, e9, b1, b2.trans z2, b3.trans z3, w2⟩, ?_⟩
  have := OLD.node (n := n) (r := r) (P0 := P0) (τ' := mBec τ1 r P) nC y2 hxC (fun c hc => by rw [List.mem_singleton.mp hc]; exact t1) (by omega) h63 (fun j i h1 h2 h3 h4 => hb j i (by omega) (by omega)) (fun j i h => hb j i (by omega) (by omega)) o5 (by omega) (nobnd (κ := κ) ((hxC.1 16 P (by omega) rfl).trans nC.2.2.1.1) (by omega) (by omega) (by omega) (by omega))
  have hpo : OLD n r H' P0 σ τ σ τp := by rw [← hτp]; exact OLD.refl.wrM (by omega)
  exact hpo.trans this (Nat.le_refl _) (Nat.le_refl _) (Nat.le_refl _) (Nat.le_refl _)
/-- numbers, nil -/
theorem leaf_ok {κ : Nat} {x v : Int32} (h : ST K1 K2 m μ g fc sc fs D H (n + 1) A P r σ τ) (hX : rd τ 132 n = i32 13) (hx : x = i32 κ) (hκ : κ = 0 ∧ μ A = 2 ∧ v = rd σ 11 A ∨ κ = 1 ∧ μ A = 13 ∧ v = 0) (d : Nat) : OUTI L xs K1 K2 τ (rn L xs (d + 2) 133 0 [.ref 62, .int x, .int v, jv] [] σ) (NTQ K1 K2 m μ g fc sc fs D H n r A P σ τ) := by
  obtain ⟨o1, o2, o3, o4, ⟨o5, o5'⟩, o6, ⟨s1, s2, s3, s4, s5, s6, s7, s8, s9, s10, s11, s12⟩, o8, o9, o10⟩ := h.all
  have hlt := h.lt (by omega)
  have hws := wch_succ μ A
  have hu : uch (μ A) = 1 ∧ aen (μ A) = true := by rcases hκ with ⟨_, e, _⟩ | ⟨_, e, _⟩ <;> rw [e] <;> exact ⟨rfl, rfl⟩
  have hSTp := h.pop
  generalize hτp : wr τ 123 18 (i32 n) = τp at hSTp
  have hp : ∀ j i, ¬ (j = 123 ∧ i = 18) → rd τp j i = rd τ j i := fun j i h => by rw [← hτp, rd_wr, if_neg h]
  subst hx
  have e133 : rn L xs (d + 2) 133 0 [.ref 62, .int (i32 κ), .int v, jv] [] σ = some (.inl (some (.int (i32 P))), wr (wr (wr (wr (cNew σ P (i32 κ) (i32 A) (i32 A) (rd σ 62 5)) 27 P v) 62 8 (i32 A)) 62 9 (i32 A)) 62 3 (i32 (A + 1 : Nat))) := by
    have e3 : rd (cNew σ P (i32 κ) (i32 A) (i32 A) (rd σ 62 5)) 62 3 = i32 A := (cNew_oth rfl (by omega)).trans s1
    rw [e133_0 (d + 1), s1, bI_ok (cnew_ok o5 (by omega) d _ _ _ _), e3, c_in (by omega) (by omega) (by omega), i32_ixn (by omega), i32_n1]
  have nC := nodC.zero (σ := σ) (P := P) (κ := κ) (f := i32 A) (l := i32 A) (s := rd σ 62 5)
  have hsc : ∀ i, i ≠ 3 → i ≠ 8 → i ≠ 9 → rd (wr (wr (wr (wr (cNew σ P (i32 κ) (i32 A) (i32 A) (rd σ 62 5)) 27 P v) 62 8 (i32 A)) 62 9 (i32 A)) 62 3 (i32 (A + 1 : Nat))) 62 i = rd σ 62 i := fun i h1 h2 h3 => by
    rw [rd_wr, if_neg (by omega), rd_wr, if_neg (by omega), rd_wr, if_neg (by omega), wr_nek (by omega)]; exact cNew_oth rfl (by omega)
  have hxC : xC (cNew σ P (i32 κ) (i32 A) (i32 A) (rd σ 62 5)) (wr (wr (wr (wr (cNew σ P (i32 κ) (i32 A) (i32 A) (rd σ 62 5)) 27 P v) 62 8 (i32 A)) 62 9 (i32 A)) 62 3 (i32 (A + 1 : Nat))) P := ⟨fun j i h1 h2 => by
    rw [rd_wr, if_neg (fun q => by rw [q.1, q.2] at h2; cases h2), rd_wr, if_neg (fun q => by rw [q.1, q.2] at h2; cases h2), rd_wr, if_neg (fun q => by rw [q.1, q.2] at h2; cases h2), rd_wr, if_neg (fun q => h1 ⟨q.2, Or.inr q.1⟩)], rfl⟩
  have h27 : rd (wr (wr (wr (wr (cNew σ P (i32 κ) (i32 A) (i32 A) (rd σ 62 5)) 27 P v) 62 8 (i32 A)) 62 9 (i32 A)) 62 3 (i32 (A + 1 : Nat))) 27 P = v := by rw [wr_nek (by omega), wr_nek (by omega), wr_nek (by omega), rd_wr, if_pos ⟨rfl, rfl⟩]
  have g8 : rd (wr (wr (wr (wr (cNew σ P (i32 κ) (i32 A) (i32 A) (rd σ 62 5)) 27 P v) 62 8 (i32 A)) 62 9 (i32 A)) 62 3 (i32 (A + 1 : Nat))) 62 8 = i32 A := by rw [rd_wr, if_neg (by omega), rd_wr, if_neg (by omega), rd_wr, if_pos ⟨rfl, rfl⟩]
  have g9 : rd (wr (wr (wr (wr (cNew σ P (i32 κ) (i32 A) (i32 A) (rd σ 62 5)) 27 P v) 62 8 (i32 A)) 62 9 (i32 A)) 62 3 (i32 (A + 1 : Nat))) 62 9 = i32 A := by rw [rd_wr, if_neg (by omega), rd_wr, if_pos ⟨rfl, rfl⟩]
  have g3 : rd (wr (wr (wr (wr (cNew σ P (i32 κ) (i32 A) (i32 A) (rd σ 62 5)) 27 P v) 62 8 (i32 A)) 62 9 (i32 A)) 62 3 (i32 (A + 1 : Nat))) 62 3 = i32 (A + 1 : Nat) := by rw [rd_wr, if_pos ⟨rfl, rfl⟩]
  have g63 : ∀ i, rd (wr (wr (wr (wr (cNew σ P (i32 κ) (i32 A) (i32 A) (rd σ 62 5)) 27 P v) 62 8 (i32 A)) 62 9 (i32 A)) 62 3 (i32 (A + 1 : Nat))) 63 i = rd σ 63 i := fun i => by rw [wr_nek (by omega), wr_nek (by omega), wr_nek (by omega), wr_nek (by omega)]; exact cNew_oth rfl (by omega)
  have hkids : ∀ w, w < 3 → rd (wr (wr (wr (wr (cNew σ P (i32 κ) (i32 A) (i32 A) (rd σ 62 5)) 27 P v) 62 8 (i32 A)) 62 9 (i32 A)) 62 3 (i32 (A + 1 : Nat))) (20 + w) P = kid [] w := fun w hw => by rw [hxC.1 (20 + w) P (by omega) (scC_lo (by omega))]; exact nC.2.2.2.1 w hw
  generalize wr (wr (wr (wr (cNew σ P (i32 κ) (i32 A) (i32 A) (rd σ 62 5)) 27 P v) 62 8 (i32 A)) 62 9 (i32 A)) 62 3 (i32 (A + 1 : Nat)) = σ' at *
  -- the model
  have nM := nodM.zero (τ := τp) (P := P) (κ := i32 (mKd κ)) (f := i32 A) (l := i32 A)
  generalize hτ1 : mNew τp P (i32 (mKd κ)) (i32 A) (i32 A) = τ1 at nM
  have s22 : rd τ1 123 22 = i32 r := by rw [← hτ1]; exact (mNew_oth (by omega) (by omega)).trans ((hp _ _ (by omega)).trans s7)
  have s17 : rd τ1 123 17 = i32 A := by rw [← hτ1]; exact (mNew_oth (by omega) (by omega)).trans ((hp _ _ (by omega)).trans s2)
  have p46 : rd τp 123 46 = i32 P := (hp _ _ (by omega)).trans o5'
  have a129 : rd τ1 129 A = rd τ 129 A := by rw [← hτ1]; exact (mNew_oth (by omega) (by omega)).trans (hp _ _ (by omega))
  have n154 : rd τ1 154 P = i32 (-1) ∧ rd τ1 155 P = i32 (-1) ∧ rd τ1 156 P = i32 (-1) := by rw [← hτ1]; exact ⟨mNew_at.2.2.2.1, mNew_at.2.2.2.2.1, mNew_at.2.2.2.2.2.1⟩
  have fin : ∀ τ2 : tvS, (∀ j i, ¬ (i = P ∧ j = 157) → rd τ2 j i = rd τ1 j i) → (κ = 0 → rd τ2 157 P = v) →
      (∀ dm, rn L xs (dm + 7) 312 0 [.ref 123, jv, jv] [] τp = some (.inl none, wr (wr (wr (wr (wr τ2 135 r (i32 P)) 136 r (i32 A)) 137 r (i32 A)) 123 22 (i32 (r + 1 : Nat))) 123 17 (i32 (A + 1 : Nat)))) → OUTI L xs K1 K2 τ (rn L xs (d + 2) 133 0 [.ref 62, .int (i32 κ), .int v, jv] [] σ) (NTQ K1 K2 m μ g fc sc fs D H n r A P σ τ) := by
    intro τ2 z1 z2 z3
    have hmS : mS L xs τ (wr (wr (wr (wr (wr τ2 135 r (i32 P)) 136 r (i32 A)) 137 r (i32 A)) 123 22 (i32 (r + 1 : Nat))) 123 17 (i32 (A + 1 : Nat))) := by
      refine nx s6 (by omega) o3 ⟨hX, rfl, rfl⟩ (pc := 297) (by decide +kernel) (fun dm => ?_)
      rw [hτp, e310_297 (dm + 7), bV_ok (z3 dm), e310_362]
    have hb : ∀ j i, ¬ (135 ≤ j ∧ j ≤ 137 ∧ i = r) → ¬ (j = 123 ∧ (i = 22 ∨ i = 17)) → ¬ (i = P ∧ j = 157) → rd (wr (wr (wr (wr (wr τ2 135 r (i32 P)) 136 r (i32 A)) 137 r (i32 A)) 123 22 (i32 (r + 1 : Nat))) 123 17 (i32 (A + 1 : Nat))) j i = rd τ1 j i := fun j i h1 h2 h3 => by
      rw [rd_wr, if_neg (by omega), rd_wr, if_neg (by omega), rd_wr, if_neg (by omega), rd_wr, if_neg (by omega), rd_wr, if_neg (by omega)]; exact z1 j i h3
    have b1 : rd (wr (wr (wr (wr (wr τ2 135 r (i32 P)) 136 r (i32 A)) 137 r (i32 A)) 123 22 (i32 (r + 1 : Nat))) 123 17 (i32 (A + 1 : Nat))) 135 r = i32 P := by rw [wr_nek (by omega), wr_nek (by omega), wr_nek (by omega), wr_nek (by omega), rd_wr, if_pos ⟨rfl, rfl⟩]
    have b2 : rd (wr (wr (wr (wr (wr τ2 135 r (i32 P)) 136 r (i32 A)) 137 r (i32 A)) 123 22 (i32 (r + 1 : Nat))) 123 17 (i32 (A + 1 : Nat))) 136 r = i32 A := by rw [wr_nek (by omega), wr_nek (by omega), wr_nek (by omega), rd_wr, if_pos ⟨rfl, rfl⟩]
    have b3 : rd (wr (wr (wr (wr (wr τ2 135 r (i32 P)) 136 r (i32 A)) 137 r (i32 A)) 123 22 (i32 (r + 1 : Nat))) 123 17 (i32 (A + 1 : Nat))) 137 r = i32 A := by rw [wr_nek (by omega), wr_nek (by omega), rd_wr, if_pos ⟨rfl, rfl⟩]
    have b4 : rd (wr (wr (wr (wr (wr τ2 135 r (i32 P)) 136 r (i32 A)) 137 r (i32 A)) 123 22 (i32 (r + 1 : Nat))) 123 17 (i32 (A + 1 : Nat))) 123 22 = i32 (r + 1 : Nat) := by rw [rd_wr, if_neg (by omega), rd_wr, if_pos ⟨rfl, rfl⟩]
    have b5 : rd (wr (wr (wr (wr (wr τ2 135 r (i32 P)) 136 r (i32 A)) 137 r (i32 A)) 123 22 (i32 (r + 1 : Nat))) 123 17 (i32 (A + 1 : Nat))) 123 17 = i32 (A + 1 : Nat) := by rw [rd_wr, if_pos ⟨rfl, rfl⟩]
    have b6 : κ = 0 → rd (wr (wr (wr (wr (wr τ2 135 r (i32 P)) 136 r (i32 A)) 137 r (i32 A)) 123 22 (i32 (r + 1 : Nat))) 123 17 (i32 (A + 1 : Nat))) 157 P = v := fun q => by rw [wr_nek (by omega), wr_nek (by omega), wr_nek (by omega), wr_nek (by omega), wr_nek (by omega)]; exact z2 q
    generalize wr (wr (wr (wr (wr τ2 135 r (i32 P)) 136 r (i32 A)) 137 r (i32 A)) 123 22 (i32 (r + 1 : Nat))) 123 17 (i32 (A + 1 : Nat)) = τ' at hmS hb b1 b2 b3 b4 b5 b6
    have hbn : ∀ j i, ¬ (135 ≤ j ∧ j ≤ 137 ∧ i = r) → ¬ (j = 123 ∧ (i = 22 ∨ i = 46 ∨ i = 17)) → ¬ (151 ≤ j ∧ j ≤ 163) → rd τ' j i = rd τp j i := fun j i h1 h2 h3 => (hb j i h1 (by omega) (by omega)).trans (nM.2.1 j i h3 (by omega))
    obtain ⟨w1, w2⟩ := hSTp.node (κ := κ) (a := A) (b := A) (st := P) (kids := []) (r0 := r) (D' := D) (H' := H) (n' := n) (A' := A + 1) (σ' := σ') (τ' := τ') (by omega) (by omega) (by omega) (by omega) nC nM hxC
      (fun j i h1 h2 => by
        by_cases h3 : j = 123 ∧ (i = 22 ∨ i = 17)
        · rcases h3.2 with e | e <;> rw [h3.1, e] at h2 <;> cases h2
        · exact hb j i (fun q => by
            have : rgN 132 138 j = true := by unfold rgN; rw [Nat.ble_eq_true_of_le (by omega), Nat.blt_eq.mpr (by omega)]; rfl
            unfold scM at h2; rw [this] at h2; cases h2) h3 (by omega))
      rfl (fun c hc => by cases hc) ((hb 152 P (by omega) (by omega) (by omega)).trans nM.2.2.1.2.1) ((hb 153 P (by omega) (by omega) (by omega)).trans nM.2.2.1.2.2.1) (Nat.le_refl _) (Nat.lt_succ_self _) (fun e => by omega) (nnR_no (by omega) (by omega) (by omega) (by omega))
      ⟨fun q => (b6 (by omega)).trans h27.symm, fun q => absurd q (by omega), fun q => absurd q (by omega), fun q1 q2 => absurd q1 (by omega), fun q => absurd q (by omega), fun q => absurd q (by omega), fun q => absurd q (by omega), fun q => absurd q (by omega), fun _ => ⟨by rw [hb 154 P (by omega) (by omega) (by omega), n154.1]; exact (hkids 0 (by omega)).symm, by rw [hb 155 P (by omega) (by omega) (by omega), n154.2.1]; exact (hkids 1 (by omega)).symm, by rw [hb 156 P (by omega) (by omega) (by omega), n154.2.2]; exact (hkids 2 (by omega)).symm, hkids⟩, fun q => absurd q (by omega)⟩
      (fun w c hw2 => by simp at hw2) (ownR_no (by omega) (by omega) (by omega)) (by rcases hκ with ⟨e, _⟩ | ⟨e, _⟩ <;> rw [e] <;> rfl)
      (Nat.le_succ _) hlt s9 (by omega) (by omega) (by omega) g3 b5 ((hsc 4 (by omega) (by omega) (by omega)).trans s3) ((hbn _ _ (by omega) (by omega) (by omega)).trans ((hp _ _ (by omega)).trans s4)) ((hsc 11 (by omega) (by omega) (by omega)).trans s5) ((hbn _ _ (by omega) (by omega) (by omega)).trans (by rw [← hτp, rd_wr, if_pos ⟨rfl, rfl⟩])) b4
    refine Or.inl ⟨i32 P, σ', τ', e133, hmS, A + 1, P + 1, rfl, w1, ⟨⟨Nat.lt_succ_self _, RF.node nC hxC (by omega) RF.none⟩, Nat.lt_succ_self _, g8, g9, b1, b2, b3, w2⟩, by omega, hu.2, ?_⟩
    have := OLD.node (n := n) (r := r) (P0 := P) (τ' := τ') (H' := H) nC nM hxC (fun c hc => by cases hc) (Nat.le_refl _) (fun i _ => g63 i) (fun j i h1 h2 h3 h4 => hb j i (by omega) (by omega) (by omega)) (fun j i h => hb j i (by omega) (by omega) (by omega)) o5 (by omega) (nobnd (κ := κ) ((hxC.1 16 P (by omega) rfl).trans nC.2.2.1.1) (by omega) (by omega) (by omega) (by omega))
    have hpo : OLD n r H P σ τ σ τp := by rw [← hτp]; exact OLD.refl.wrM (by omega)
    exact hpo.trans this (Nat.le_refl _) (Nat.le_refl _) (Nat.le_refl _) (Nat.le_refl _)
  rcases hκ with ⟨k1, k2, k3⟩ | ⟨k1, k2, k3⟩
  · subst k1
    have hv : rd τ 129 A = v := by
      rw [k3]
      rcases o1.2.2.2.1 A hlt with ⟨q, _⟩ | ⟨q, _, q2⟩ | ⟨q, q2, _⟩ | ⟨q, _⟩
      · rw [o2] at q; omega
      · exact q2.symm
      · rw [o2] at q q2; omega
      · rw [o2] at q; omega
    refine fin (wr τ1 157 P v) (fun j i h => by rw [rd_wr, if_neg (by omega)]) (fun _ => by rw [rd_wr, if_pos ⟨rfl, rfl⟩]) (fun dm => ?_)
    have hτ1 : mNew τp P 1 (i32 A) (i32 A) = τ1 := hτ1
    rw [e312_0 (dm + 6), bI_ok (hSTp.mk (dm + 5)), k2, swk_of (p := 68) (by decide +kernel), e312_68 (dm + 6), show rd τp 123 17 = i32 A from (hp _ _ (by omega)).trans s2, bI_ok (mnew_ok p46 (by omega) (dm + 5) 1 _ _), hτ1, s17, c_in (by omega) (by omega) (by omega), c_in (by omega) (by omega) (by omega), i32_ixn (by omega), i32_ixn (by omega), a129, hv, bV_ok (mhold_ok (r := r) ((wr_nek (by omega)).trans s22) (by omega) (dm + 5) _ _ _), e312_246]
    rw [rd_wr, if_neg (by omega), wr_nek (by omega), wr_nek (by omega), wr_nek (by omega), wr_nek (by omega), s17, i32_n1]
  · subst k1
    refine fin τ1 (fun j i h => rfl) (fun q => absurd q (by omega)) (fun dm => ?_)
    have hτ1 : mNew τp P 2 (i32 A) (i32 A) = τ1 := hτ1
    rw [e312_0 (dm + 6), bI_ok (hSTp.mk (dm + 5)), k2, swk_of (p := 123) (by decide +kernel), e312_123 (dm + 6), show rd τp 123 17 = i32 A from (hp _ _ (by omega)).trans s2, bI_ok (mnew_ok p46 (by omega) (dm + 5) 2 _ _), hτ1, s17, bV_ok (mhold_ok (r := r) s22 (by omega) (dm + 5) _ _ _), e312_246]
    rw [rd_wr, if_neg (by omega), wr_nek (by omega), wr_nek (by omega), wr_nek (by omega), s17, i32_n1]
end UNA
