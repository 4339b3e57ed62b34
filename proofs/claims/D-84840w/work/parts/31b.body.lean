/-! READING: what a function does -/
section BODY
variable {L : Nat} {xs : Nat → Int32} {K1 K2 m : Nat} {μ : Nat → Nat} {g fc : Nat} {sc : List Nat} {fs fs' : List (Nat × Nat × List Nat)} {F D H n A P r r0 : Nat} {σ τ σ' τ' σ1 τ1 : tvS}
theorem CORE.rz (h : CORE K1 K2 m μ g fc sc fs F A P r σ τ) : CORE K1 K2 m μ g fc sc fs F A P 0 σ τ := by
  obtain ⟨V, S, C, q, cp, a1, a2, a3, a5, a9, ⟨a10, a11⟩, a12⟩ := h
  exact ⟨V, S, C, q, cp, a1, a2, a3, a5, a9, ⟨a10, by omega⟩, a12⟩
/-- a fault of both, seen from outside -/
def FLB (K1 K2 : Nat) (R R' : tvR) : Prop := ∃ (σ0 τ' : tvS) (k p : Int32), R = some (.inr (1016, (rm σ0).1), cFlt σ0 k p) ∧ roomC K1 K2 σ0 ∧ R' = some (.inl none, τ') ∧ rd τ' 123 5 = k ∧ rd τ' 123 6 = p ∧ pv_c1 .le k = false
theorem c1_nz0 {k : Int32} (h : pv_c1 .le k = false) : pv_c1 .ne k = true := by
  rw [c1_nex]
  rw [c1_lex] at h
  have := of_decide_eq_false h
  exact decide_eq_true (fun e => this (by omega))
theorem body_ok {d : Nat} (h : CORE K1 K2 m μ g fc sc [] F A P 0 σ τ) (hA : A ≤ m) (s1 : rd σ 62 3 = i32 A) (s2 : rd τ 123 17 = i32 A) (s5 : rd σ 62 11 = i32 (0 : Nat)) (hF : 3 * F ≤ A) (hP : P ≤ wch μ A) (hPF : ∀ f, f < fc → f ≠ g → ∃ a : Nat, rd σ 46 f = i32 a ∧ a ≤ P) (hcal : ∀ p f : Nat, p < P → rd σ 16 p = i32 3 → f < ix (rd σ 15 38) → rd σ 27 p = i32 f → f ≠ g) (hZ : SLO τ) (hd : 520 ≤ d) :
    (∃ (σ' τ' : tvS) (A' P' F' : Nat), rn L xs (d + 1) 118 0 [.ref 62, jv] [] σ = some (.inl none, σ') ∧ (∀ dm, rn L xs (dm + 9) 308 0 [.ref 123, .int (i32 g)] [] τ = some (.inl none, τ')) ∧ CORE K1 K2 m μ g fc sc [] F' A' P' 0 σ' τ' ∧
      (A < A' ∧ A' ≤ m ∧ rd σ' 62 3 = i32 A' ∧ rd τ' 123 17 = i32 A' ∧ rd σ' 62 11 = i32 (0 : Nat) ∧ 3 * F' ≤ A' ∧ P < P' ∧ P' ≤ wch μ A') ∧
      (rd σ' 46 g = i32 P ∧ rd σ' 47 g = i32 P' ∧ rd σ' 48 g = i32 F ∧ rd σ' 49 g = i32 F' ∧ rd τ' 142 g = i32 (P' - 1 : Nat)) ∧
      (rd σ' 26 (P' - 1) = i32 P ∧ rd σ' 24 (P' - 1) = i32 (-1) ∧ rd σ' 25 (P' - 1) = i32 11 ∧ rd σ' 28 (P' - 1) = rd σ 62 5) ∧ SLO τ' ∧
      (∀ j i, 43 ≤ j → j ≤ 49 → ¬ (i = g ∧ 46 ≤ j) → rd σ' j i = rd σ j i) ∧ (∀ j i, 138 ≤ j ∧ j ≤ 144 ∨ j = 202 → ¬ (j = 142 ∧ i = g) → rd τ' j i = rd τ j i) ∧
      (∀ p, p < P → ∀ j, 16 ≤ j ∧ j ≤ 18 ∨ 23 ≤ j ∧ j ≤ 28 → rd σ' j p = rd σ j p) ∧ (∀ p, p < P → rd τ' 160 p = rd τ 160 p) ∧ (∀ s, s ≤ ix (rd τ 123 42) → ∀ j, j = 149 ∨ j = 150 → rd τ' j s = rd τ j s) ∧ ix (rd τ 123 42) ≤ ix (rd τ' 123 42) ∧
      (∀ v, v < ix (rd σ 15 19) → rd σ' 31 v = rd σ 31 v ∧ rd σ' 32 v = rd σ 32 v ∧ rd σ' 33 v = rd σ 33 v) ∧ (∀ j, j ≠ 29 → ∀ i, rl σ' j i = rl σ j i) ∧ F ≤ F' ∧
      ix (rd σ 15 19) ≤ ix (rd σ' 15 19) ∧ (∀ v, ix (rd σ 15 19) ≤ v → v < ix (rd σ' 15 19) → ∃ p, p < P' ∧ bnd σ' p v) ∧ UBF P P' (ix (rd σ 15 19)) (ix (rd σ' 15 19)) σ' ∧ RF A P P' σ') ∨
      ∀ dm, FLB K1 K2 (rn L xs (d + 1) 118 0 [.ref 62, jv] [] σ) (rn L xs (dm + 9) 308 0 [.ref 123, .int (i32 g)] [] τ) := by
  obtain ⟨c1, c2, c3, c4, ⟨c5, c5'⟩, c6⟩ := h.lv
  obtain ⟨V, S, k0, a5, a7, a8, hm, a6, ⟨b1, b2, b3, b4, b5, b6, b7⟩, a14⟩ := h.scS
  have hw := c1.2.2.2.2.2.2.1 A hA
  rw [c2] at hw
  have hF9 : rd σ 15 26 = i32 F ∧ rd σ 62 6 = i32 (-1) ∧ ∀ v, v ∈ sc → rd σ 31 v = i32 (-1) := by
    obtain ⟨V', S', C, q, cp, _, _, _, _, a9, _, _, _, _, _, _, _, hcap⟩ := h
    exact ⟨a9, hcap.2.1, hcap.2.2.2.2.2.1⟩
  -- where both begin
  have hCe : ∀ j i, ¬ (j = 62 ∧ i = 4) → ¬ (i = g ∧ (j = 46 ∨ j = 48)) → rd (wr (wr (wr (wr σ 62 4 0) 62 6 (i32 (-1))) 46 g (i32 P)) 48 g (i32 F)) j i = rd σ j i := fun j i h1 h2 => by
    rw [rd_wr, if_neg (by omega), rd_wr, if_neg (by omega)]
    by_cases e : j = 62 ∧ i = 6
    · rw [e.1, e.2, wr_self]; exact hF9.2.1.symm
    · rw [rd_wr, if_neg e, rd_wr, if_neg h1]
  have h46 : rd (wr (wr (wr (wr σ 62 4 0) 62 6 (i32 (-1))) 46 g (i32 P)) 48 g (i32 F)) 46 g = i32 P := by rw [wr_nek (by omega), wr_self]
  have h48 : rd (wr (wr (wr (wr σ 62 4 0) 62 6 (i32 (-1))) 46 g (i32 P)) 48 g (i32 F)) 48 g = i32 F := by rw [wr_self]
  have h4 : rd (wr (wr (wr (wr σ 62 4 0) 62 6 (i32 (-1))) 46 g (i32 P)) 48 g (i32 F)) 62 4 = i32 (0 : Nat) := by rw [wr_nek (by omega), wr_nek (by omega), wr_nei (by omega), wr_self]; rfl
  have hl0 : (wr (wr (wr (wr σ 62 4 0) 62 6 (i32 (-1))) 46 g (i32 P)) 48 g (i32 F)).2 = σ.2 := rfl
  have he118 : rn L xs (d + 1) 118 0 [.ref 62, jv] [] σ = bI (rn L xs d 119 0 [.ref 62, jv] [] (wr (wr (wr (wr σ 62 4 0) 62 6 (i32 (-1))) 46 g (i32 P)) 48 g (i32 F))) (fun a2 s1 => cond (pv_in a2 4101) (cond (pv_in (rd s1 62 7) 21) (cond (pv_in (rd s1 62 7) 21) (some (.inl none, wr (wr (wr s1 25 (ix a2) 11) 47 (ix (rd s1 62 7)) (rd s1 15 13)) 49 (ix (rd s1 62 7)) (rd s1 15 26))) none) none) none) X0 := by
    rw [e118_0, b1, c_in (by omega) (by omega) (by omega), c_in (by omega) (by omega) (by omega), i32_ixn (by omega), c5, hF9.1]
    rfl
  rw [he118]
  generalize wr (wr (wr (wr σ 62 4 0) 62 6 (i32 (-1))) 46 g (i32 P)) 48 g (i32 F) = σ0 at hCe h46 h48 h4 hl0
  have he308 : ∀ dm, rn L xs (dm + 9) 308 0 [.ref 123, .int (i32 g)] [] τ = rn L xs (dm + 9) 308 22 [.ref 123, .int (i32 g)] [] (mPush (wr (wr (wr τ 123 18 0) 123 22 0) 123 26 0) 0 1 0 0) := fun dm => by
    rw [e308_0 (dm + 8), bV_ok (mpush_ok (n := 0) (by rw [wr_nei (by omega), wr_nei (by omega), wr_self]; rfl) (by omega) (dm + 7) _ _ _)]
  have hMe : ∀ j i, ¬ (132 ≤ j ∧ j ≤ 134) → ¬ (j = 123 ∧ (i = 18 ∨ i = 22 ∨ i = 26)) → rd (mPush (wr (wr (wr τ 123 18 0) 123 22 0) 123 26 0) 0 1 0 0) j i = rd τ j i := fun j i h1 h2 => by
    rw [mPush_oth (by omega) (by omega), rd_wr, if_neg (by omega), rd_wr, if_neg (by omega), rd_wr, if_neg (by omega)]
  have hM18 : rd (mPush (wr (wr (wr τ 123 18 0) 123 22 0) 123 26 0) 0 1 0 0) 123 18 = i32 (0 + 1 : Nat) := mPush_come
  have hM22 : rd (mPush (wr (wr (wr τ 123 18 0) 123 22 0) 123 26 0) 0 1 0 0) 123 22 = i32 (0 : Nat) := by rw [mPush_s (by omega), wr_nei (by omega), wr_self]; rfl
  have hM26 : rd (mPush (wr (wr (wr τ 123 18 0) 123 22 0) 123 26 0) 0 1 0 0) 123 26 = i32 (0 : Nat) := by rw [mPush_s (by omega), wr_self]; rfl
  have hIT : IT (mPush (wr (wr (wr τ 123 18 0) 123 22 0) 123 26 0) 0 1 0 0) 0 1 0 0 := IT.at rfl
  generalize mPush (wr (wr (wr τ 123 18 0) 123 22 0) 123 26 0) 0 1 0 0 = τ0 at he308 hMe hM18 hM22 hM26 hIT
  have hc0 : CORE K1 K2 m μ g fc sc [] F A P 0 σ0 τ0 := by
    refine h.gen (Nat.le_refl _) (by omega) (fun j i h1 h2 h3 h4 h5 => hCe j i (fun q => by rw [q.1, q.2] at h5; cases h5) (by omega)) (fun j i h1 h2 h3 h4 => hMe j i (fun q => by
        have : rgN 132 138 j = true := by unfold rgN; rw [Nat.ble_eq_true_of_le (by omega), Nat.blt_eq.mpr (by omega)]; rfl
        unfold scM at h4; rw [this] at h4; cases h4) (fun q => by
        rcases q.2 with e | e | e
        · rw [q.1, e] at h4; cases h4
        · rw [q.1, e] at h4; cases h4
        · rw [q.1, e] at h4; cases h4)) (fun j i _ => by unfold rl; rw [hl0]) (by rw [hl0]) ?_ (by rw [hCe 15 38 (by omega) (by omega)]; exact Nat.le_refl _) (fun p f hp h3 hf h27 => ⟨hCe 44 f (by omega) (by omega), hCe 46 f (by omega) (fun q => hcal p f hp h3 hf h27 q.1)⟩)
    have hmu : mu τ0 = mu τ := by funext j; unfold mu; rw [hMe 126 j (by omega) (by omega)]
    exact FNC.congr ⟨b1, b2, b3, b4, b5, b6, b7⟩ hmu (hCe 62 7 (by omega) (by omega)) (hCe 15 38 (by omega) (by omega)) (fun i => hCe 44 i (by omega) (by omega)) (fun i => by unfold rl; rw [hl0]) (fun i => by unfold rl; rw [hl0]) (fun i hi => hMe 123 i (by omega) (by omega)) (fun j hj i => by have := inL3 hj; exact hMe j i (by omega) (by omega))
  have hST : ST K1 K2 m μ g fc sc [] 0 0 (0 + 1) A P 0 σ0 τ0 := by
    refine ⟨F, ⟨hc0, ⟨(hCe 62 3 (by omega) (by omega)).trans s1, (hMe 123 17 (by omega) (by omega)).trans s2, h4, hM26, (hCe 62 11 (by omega) (by omega)).trans s5, hM18, hM22, hA, by omega, by omega, by omega, hP⟩, by omega⟩, hF, ?_, fun f hf => ?_, hZ.congr (fun i hi => hMe 123 i (by omega) (by omega)) (fun j hj i => hMe j i (by omega) (by omega))⟩
    · rw [hCe 62 6 (by omega) (by omega), hF9.2.1]
      cases sc with
      | nil => rfl
      | cons v t => exact ((hCe 31 v (by omega) (by omega)).trans (hF9.2.2 v List.mem_cons_self)).symm
    · by_cases e : f = g
      · exact ⟨P, by rw [e]; exact h46, Nat.le_refl _⟩
      · obtain ⟨a, e1, e2⟩ := hPF f hf e
        exact ⟨a, (hCe 46 f (by omega) (by omega)).trans e1, e2⟩
  rcases expr_all (L := L) (xs := xs) (K1 := K1) (K2 := K2) (m := m) (μ := μ) (g := g) (fc := fc) (m - A + 1) sc [] 0 0 0 A P 0 σ0 τ0 d hST hIT.1 (by omega) (by omega) (by omega) with ⟨a, σ2, τ2, f1, f2, A', P', y1, y2, ⟨t1, t2, t3, t4, t5, t6, t7, t8⟩, y4, y5, y6⟩ | ⟨σf, τf, k, p, f1, f2, f3, f4, f5, f6⟩
  · refine Or.inl ?_
    subst y1
    obtain ⟨p1, p2, p3, p4, ⟨p5, p5'⟩, p6, ⟨r1, r2, r3, r4, r5, r6, r7, r8, r9, r10, r11, r12⟩, p8, p9, p10⟩ := y2.all
    have hch2 := h.scS
    obtain ⟨F', ⟨hc2, _, _⟩, hF2, hO2, hPF2, hZ2⟩ := id y2
    obtain ⟨V2, S2, k02, a52, a72, a82, _, a62, hFN2, _⟩ := hc2.scS
    have hF26 : rd σ2 15 26 = i32 F' := by
      obtain ⟨V', S', C, q, cp, _, _, _, _, a9, _⟩ := hc2
      exact a9
    have e7 : rd σ2 62 7 = i32 g := hFN2.1
    obtain ⟨o1, o2, o3, o4, o5, o6, o7, ⟨x1, x2, x3, x4, x5, x6⟩, ⟨m1, m2⟩, ⟨m3, m4⟩, m5, m6, m7⟩ := y6
    have hFF : F ≤ F' := by
      apply Classical.byContradiction
      intro q
      have hst : ∃ p, p < P ∧ rd σ 16 p = i32 17 ∧ rd σ 27 p = i32 F' := by
        obtain ⟨V', S', C, q', cp, _, _, _, _, _, _, _, _, _, _, _, _, hcap⟩ := h
        rcases hcap.2.2.2.2.2.2.2.2 F' (by omega) with e | ⟨p, e1, e2, e3, _⟩
        · cases e
        · exact ⟨p, e1, e2, e3⟩
      obtain ⟨p, e1, e2, e3⟩ := hst
      have e16 : rd σ2 16 p = i32 17 := (x2 p e1 16 (by omega) (by omega)).trans ((hCe 16 p (by omega) (by omega)).trans e2)
      have e27 : rd σ2 27 p = i32 F' := (o4 p e1 27 (by omega) (by omega)).trans ((hCe 27 p (by omega) (by omega)).trans e3)
      obtain ⟨V', S', C, q', cp, _, _, _, _, _, _, _, _, _, _, _, _, hcap⟩ := hc2
      obtain ⟨f, s, l, d1, d2, _⟩ := hcap.2.2.2.2.2.2.2.1 p (by omega) e16
      have := (i32_inj (by omega) (by omega) (by omega) (by omega)).mp (d1.symm.trans e27)
      omega
    have s5' : rd σ2 62 5 = rd σ 62 5 := (hST.s5 y2).trans (hCe 62 5 (by omega) (by omega))
    rw [bI_ok f1, c_in (by omega) (by omega) (by omega), e7, c_in (by omega) (by omega) (by omega), c_in (by omega) (by omega) (by omega), i32_ixn (by omega), i32_ixn (by omega), p5, hF26]
    have hCf : ∀ j i, ¬ (j = 25 ∧ i = P' - 1) → ¬ (i = g ∧ (j = 47 ∨ j = 49)) → rd (wr (wr (wr σ2 25 (P' - 1) 11) 47 g (i32 P')) 49 g (i32 F')) j i = rd σ2 j i := fun j i h1 h2 => by
      rw [rd_wr, if_neg (by omega), rd_wr, if_neg (by omega), rd_wr, if_neg (by omega)]
    have z25 : rd (wr (wr (wr σ2 25 (P' - 1) 11) 47 g (i32 P')) 49 g (i32 F')) 25 (P' - 1) = i32 11 := by rw [wr_nek (by omega), wr_nek (by omega), wr_self]; rfl
    have z47 : rd (wr (wr (wr σ2 25 (P' - 1) 11) 47 g (i32 P')) 49 g (i32 F')) 47 g = i32 P' := by rw [wr_nek (by omega), wr_self]
    have z49 : rd (wr (wr (wr σ2 25 (P' - 1) 11) 47 g (i32 P')) 49 g (i32 F')) 49 g = i32 F' := by rw [wr_self]
    have hlf : (wr (wr (wr σ2 25 (P' - 1) 11) 47 g (i32 P')) 49 g (i32 F')).2 = σ2.2 := rfl
    generalize wr (wr (wr σ2 25 (P' - 1) 11) 47 g (i32 P')) 49 g (i32 F') = σ3 at hCf z25 z47 z49 hlf
    have hMf : ∀ j i, ¬ (j = 142 ∧ i = g) → rd (wr τ2 142 g (i32 (P' - 1 : Nat))) j i = rd τ2 j i := fun j i h1 => by rw [rd_wr, if_neg h1]
    have hm308 : ∀ dm, rn L xs (dm + 9) 308 0 [.ref 123, .int (i32 g)] [] τ = some (.inl none, wr τ2 142 g (i32 (P' - 1 : Nat))) := fun dm => by
      rw [he308 dm, f2 dm (i32 g), e308_22 (dm + 8), r6, c1_le (by omega) (by omega), c_t (by omega), e308_43, p3, show pv_c1 .ne (0 : Int32) = false from rfl, cond_false, show ix 0 = 0 from rfl, t5, e308_65, c_in (by omega) (by omega) (by omega), i32_ixn (by omega)]
    have hcf : CORE K1 K2 m μ g fc sc [] F' A' P' 0 σ3 (wr τ2 142 g (i32 (P' - 1 : Nat))) := by
      refine hc2.rz.gen (Nat.le_refl _) (by omega) (fun j i h1 h2 h3 h4 h5 => hCf j i (fun q => h4 ⟨q.1, by rw [q.2]; exact t8.2.2.1⟩) (by omega)) (fun j i h1 h2 h3 h4 => hMf j i (by omega)) (fun j i _ => by unfold rl; rw [hlf]) (by rw [hlf]) ?_ (by rw [hCf 15 38 (by omega) (by omega)]; exact Nat.le_refl _) (fun p f hp h3 hf h27 => ⟨hCf 44 f (by omega) (by omega), hCf 46 f (by omega) (by omega)⟩)
      have hmu : mu (wr τ2 142 g (i32 (P' - 1 : Nat))) = mu τ2 := by funext j; unfold mu; rw [hMf 126 j (by omega)]
      exact FNC.congr hFN2 hmu (hCf 62 7 (by omega) (by omega)) (hCf 15 38 (by omega) (by omega)) (fun i => hCf 44 i (by omega) (by omega)) (fun i => by unfold rl; rw [hlf]) (fun i => by unfold rl; rw [hlf]) (fun i hi => hMf 123 i (by omega)) (fun j hj i => by have := inL3 hj; exact hMf j i (by omega))
    have e19 : ix (rd σ0 15 19) = ix (rd σ 15 19) := by rw [hCe 15 19 (by omega) (by omega)]
    have e42 : ix (rd τ0 123 42) = ix (rd τ 123 42) := by rw [hMe 123 42 (by omega) (by omega)]
    refine ⟨σ3, wr τ2 142 g (i32 (P' - 1 : Nat)), A', P', F', rfl, hm308, hcf, ⟨t1.1, r8, (hCf _ _ (by omega) (by omega)).trans r1, (hMf _ _ (by omega)).trans r2, (hCf _ _ (by omega) (by omega)).trans r5, hF2, t2, r12⟩, ⟨?_, z47, ?_, z49, wr_self _ _ _ _⟩, ⟨(hCf _ _ (by omega) (by omega)).trans t8.2.1, (hCf _ _ (by omega) (by omega)).trans t8.2.2.1, z25, ?_⟩, hZ2.congr (fun i hi => hMf 123 i (by omega)) (fun j hj i => hMf j i (by omega)), fun j i h1 h2 h3 => ?_, fun j i h1 h2 => ?_, fun p hp j hj => ?_, fun p hp => ?_, fun s hs js hjs => ?_, ?_, fun v hv => ?_, fun j hj i => ?_, hFF, ?_, fun v h1 h2 => ?_, ⟨fun p v h1 h2 hb => ?_, fun p p' v h1 h2 h3 h4 hb hb' => ?_⟩, fun p h1 h2 => ?_⟩
    · rw [hCf 46 g (by omega) (by omega), x1 46 (by omega) (by omega)]; exact h46
    · rw [hCf 48 g (by omega) (by omega), x1 48 (by omega) (by omega)]; exact h48
    · rw [hCf 28 _ (by omega) (by omega), t8.2.2.2.2.2, s5']
    · rw [hCf j i (by omega) (by omega), x1 j h1 h2]; exact hCe j i (by omega) (by omega)
    · rw [hMf j i h2, x3 j h1]; exact hMe j i (by omega) (by omega)
    · rw [hCf j p (by omega) (by omega)]
      rcases hj with e | e
      · rw [x2 p hp j e.1 e.2]; exact hCe j p (by omega) (by omega)
      · rw [o4 p hp j e.1 e.2]; exact hCe j p (by omega) (by omega)
    · rw [hMf 160 p (by omega), x4 p hp]; exact hMe 160 p (by omega) (by omega)
    · rcases hjs with e | e
      · rw [e, hMf 149 s (by omega), (x5 s (by omega)).1]; exact hMe 149 s (by omega) (by omega)
      · rw [e, hMf 150 s (by omega), (x5 s (by omega)).2]; exact hMe 150 s (by omega) (by omega)
    · rw [hMf 123 42 (by omega)]; omega
    · obtain ⟨_, w1, w2, w3⟩ := o5 v (by omega)
      rw [hCf 31 v (by omega) (by omega), hCf 32 v (by omega) (by omega), hCf 33 v (by omega) (by omega), w1, w2, w3]
      exact ⟨hCe 31 v (by omega) (by omega), hCe 32 v (by omega) (by omega), hCe 33 v (by omega) (by omega)⟩
    · show σ3.2.1 j i = _
      rw [hlf]
      show rl σ2 j i = _
      rw [o7 j hj i]
      unfold rl; rw [hl0]
    · rw [hCf 15 19 (by omega) (by omega)]; omega
    · rw [hCf 15 19 (by omega) (by omega)] at h2
      rcases m4 v (by omega) h2 with e | ⟨p, e1, e2⟩
      · cases e
      · rw [p5, i32_ixn (by omega)] at e1
        refine ⟨p, e1, e2.stay (by rw [p5, i32_ixn (by omega)]; exact e1) (fun q _ => ⟨hCf 16 q (by omega) (by omega), hCf 27 q (by omega) (by omega), hCf 28 q (by omega) (by omega)⟩)⟩
    · have hb2 := hb.back (P := P') h2 (fun q _ => ⟨hCf 16 q (by omega) (by omega), hCf 27 q (by omega) (by omega), hCf 28 q (by omega) (by omega)⟩)
      rw [hCf 15 19 (by omega) (by omega)]
      rcases m6 p v (by rw [hCe 15 13 (by omega) (by omega), c5, i32_ixn (by omega)]; exact h1) (by rw [p5, i32_ixn (by omega)]; exact h2) hb2 with e | ⟨e1, e2, _⟩
      · cases e
      · exact ⟨by omega, e2⟩
    · have hb2 := hb.back (P := P') h2 (fun q _ => ⟨hCf 16 q (by omega) (by omega), hCf 27 q (by omega) (by omega), hCf 28 q (by omega) (by omega)⟩)
      have hb2' := hb'.back (P := P') h4 (fun q _ => ⟨hCf 16 q (by omega) (by omega), hCf 27 q (by omega) (by omega), hCf 28 q (by omega) (by omega)⟩)
      have e13 : ix (rd σ0 15 13) = P := by rw [hCe 15 13 (by omega) (by omega), c5, i32_ixn (by omega)]
      have f13 : ix (rd σ2 15 13) = P' := by rw [p5, i32_ixn (by omega)]
      exact m7 p p' v (by omega) (by omega) (by omega) (by omega) hb2 hb2'
    · rw [hCf 17 p (by omega) (by omega)]; exact t1.2 p h1 h2
  · refine Or.inr (fun dm => ?_)
    rw [bI_ex f1]
    refine ⟨σf, wr τf 142 g (i32 (-1)), k, p, rfl, f2, ?_, by rw [wr_nek (by omega)]; exact f4, by rw [wr_nek (by omega)]; exact f5, f6⟩
    have e43 : rn L xs (dm + 9) 308 43 [.ref 123, .int (i32 g)] [] τf = some (.inl none, wr τf 142 g (i32 (-1))) := by
      have hne : pv_c1 .ne (rd τf 123 5) = true := by
        rw [f4]; exact c1_nz0 f6
      rw [e308_43 (dm + 8), hne, cond_true, e308_64, e308_65, c_in (by omega) (by omega) (by omega), i32_ixn (by omega)]
      rfl
    have hne : pv_c1 .ne (rd τf 123 5) = true := by
      rw [f4]; exact c1_nz0 f6
    rw [he308 dm, f3 dm (i32 g), e308_22 (dm + 8), hne, cond_true]
    cases pv_c1 .le (rd τf 123 18)
    · rw [cond_false]; exact e43
    · rw [cond_true]; exact e43
end BODY
