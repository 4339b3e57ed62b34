/-! REGIONS, BOTH: the tails -/
section TAILJ
variable {L : Nat} {xs : Nat → Int32} {σ σ' τ τ' : tvS} {K1 K2 Bc Bm f : Nat} {Rc Rm : Nat → Nat → Prop} {pd : List (Nat × List Nat × (Nat → Nat))} {n u a rc rl : Nat} {T T' : tyJ} {D : pgD} {G : sgD} {m : Nat}
/-- the signature is small, and all types of parts and variables are -/
def SML (D : pgD) (f : Nat) (T : tyJ) (σ τ : tvS) : Prop :=
  (∃ A U Hh, A ≤ 24 ∧ U ≤ 40 ∧ Hh ≤ 100 ∧ MSR (yG T) (yC T) (yH T) (SGb D f (vT σ) (rT σ f)) A U Hh ∧ MSR T.2.1.2.1 T.2.1.2.2.1 T.2.1.2.2.2.1 (SGb D f (vM τ) (rM τ f)) A U Hh ∧ rd τ 195 f = i32 (A : Int)) ∧
  (∀ p, D.bP f ≤ p → p < D.bP (f + 1) → ¬ GRT (yG T) (yC T) (yH T) (fun b => b = oT σ p)) ∧ ∀ v, D.tV f ≤ v → v < D.tV (f + 1) → ¬ GRT (yG T) (yC T) (yH T) (fun b => b = vT σ v)
theorem tails_joint {n0 fst kc0 rf cf0 kf0 : Nat} {pe0 pe : Nat → Nat} {cp : Nat → List (Nat × Nat)} {bS vs us sc : Nat → Nat} {cl : Nat → List Nat} {bl R : List Nat} {ow : Nat → Int} {pt by' : Nat → Nat} (hF : PGF D m) (hf : f ≤ D.fc) (hK2 : 6 ≤ K2) (hI : TYI K1 K2 Bc Bm f Rc Rm D G rl (D.bP (f + 1)) (D.bP (f + 1)) n u a pd rc T σ τ) (hd : ∀ q, D.bP f ≤ q → q < D.bP (f + 1) → D.K q = 3 → D.vl q < f → ∃ n1 : Nat, rd τ 181 q = i32 (n1 : Int) ∧ n1 < 60000)
    (hGc : RGC D m cp σ) (hGm : RGM D bS vs us sc cl σ τ) (hGv : RGV D m σ τ) (hCX : CPX D cp) (hn : n0 + (puL D G f (D.bP (f + 1) - D.bP f)).length < 32768) (h5 : rd τ 123 5 = 0) (h13 : ∀ l, l < m → rd σ 13 l = rd τ 127 l ∧ rd σ 13 l ≠ i32 (-1)) (hO : RGO D G K1 K2 f n0 fst pe0 T T' Bm bl R ow pe σ τ σ' τ') (hpt : FNP D f pt by')
    (hk18 : rd σ 74 18 = i32 (kc0 : Int)) (hk85 : kc0 ≤ ln σ 85) (hkc : kc0 + 60 * (D.bF (f + 1) - D.bF f) + 60 < 65536) (h13r : rd σ 65 13 = i32 (rf : Int)) (hrf : rf ≤ ln σ 73) (hrf2 : rf + 60 < 2048) (hS : T'.1.2.2.2.2.2 + 2 * (D.bP (f + 1) - D.bP f) + 2 * (D.tV (f + 1) - D.tV f) + 2 < 2147483648)
    (hcf : cf0 + 40 * fnN D f (D.bP (f + 1) - D.bP f) + 41 < 30000) (hkf : kf0 + 60 * fnN D f (D.bP (f + 1) - D.bP f) + 61 < 40000) (h103 : rd τ 123 103 = i32 (cf0 : Int)) (h107 : rd τ 123 107 = i32 (kf0 : Int)) (hSm : T'.2.1.2.2.2.2.2.1 + (D.bP (f + 1) - D.bP f) + (D.tV (f + 1) - D.tV f) + 1 < 2147483648) (hSh : T'.2.1.2.2.2.2.2.2 + 100000 < 2147483648) (d dm : Nat) (v3 v4 v5 u2 u3 : Value) :
    RGF K1 K2 σ τ (rn L xs (d + 7) 163 205 [.ref 74, .int (i32 (f : Int)), .int (i32 (n0 : Int)), v3, v4, v5] [] σ') (rn L xs (dm + 6) 348 149 [.ref 123, .int (i32 (f : Int)), u2, u3] [] τ') ∨
    ∃ (σ2 τ2 : tvS) (T2 : tyJ) (kc cf kg : Nat) (kf gf gk : Nat → Nat), rn L xs (d + 7) 163 205 [.ref 74, .int (i32 (f : Int)), .int (i32 (n0 : Int)), v3, v4, v5] [] σ' = some (.inl none, σ2) ∧ rn L xs (dm + 6) 348 149 [.ref 123, .int (i32 (f : Int)), u2, u3] [] τ' = some (.inl none, τ2) ∧ TJ0 K1 K2 T2 σ2 τ2 ∧
      (T2.1.1 = T.1.1 ∧ yG T2 = yG T ∧ yC T2 = yC T ∧ yH T2 = yH T' ∧ T2.1.2.2.2.2.1 = T'.1.2.2.2.2.1 ∧ T2.1.2.2.2.2.2 = T'.1.2.2.2.2.2 + 2 * (D.bP (f + 1) - D.bP f) + 2 * (D.tV (f + 1) - D.tV f) + 2) ∧
      (T2.2.1.1 = T.2.1.1 ∧ T2.2.1.2.1 = T.2.1.2.1 ∧ T2.2.1.2.2.1 = T.2.1.2.2.1 ∧ T2.2.1.2.2.2.1 = T'.2.1.2.2.2.1 ∧ T2.2.1.2.2.2.2.1 = T'.2.1.2.2.2.2.1 ∧ T2.2.1.2.2.2.2.2.1 = T'.2.1.2.2.2.2.2.1 + (D.bP (f + 1) - D.bP f) + (D.tV (f + 1) - D.tV f) + 1 ∧ T2.2.1.2.2.2.2.2.2 ≤ T'.2.1.2.2.2.2.2.2 + 100000) ∧ T2.2.2 = T.2.2 ∧
      RGEc D f (n0 + (puL D G f (D.bP (f + 1) - D.bP f)).length) fst kc0 rf bl ow (fun j => nfil (mkM D G f T.2.1.2.2.1 R ow τ' (by' j)) R.length) kf kc σ' σ2 ∧ (∃ nb, RGEm D G f T.2.1.2.2.1 R ow pt by' cf0 kf0 cf kg gf gk nb τ' τ2) ∧ SML D f T2 σ2 τ2 := by
  have hb4 := hF.1
  have hbl := (hF.le (D.fc + 1 - (f + 1)) (f + 1) (by omega))
  have hPf := hF.2.2 f hf
  have hlt := hPf.1.1
  have hlt3 := hPf.1.2.1
  have qb : ∀ q, q < D.bP f + (D.bP (f + 1) - D.bP f) → q < D.bP (f + 1) := fun q h => by omega
  have qv : ∀ q, q < D.tV f + (D.tV (f + 1) - D.tV f) → q < D.tV (f + 1) := fun q h => by omega
  have qb' : ∀ q, D.bP f ≤ q → q < D.bP (f + 1) → q < D.bP f + (D.bP (f + 1) - D.bP f) := fun q h h2 => by omega
  have qv' : ∀ q, D.tV f ≤ q → q < D.tV (f + 1) → q < D.tV f + (D.tV (f + 1) - D.tV f) := fun q h h2 => by omega
  obtain ⟨r1, r2, r3, r4, r5, r6, r7, r8, r9⟩ := hI.reg hF hf hd
  obtain ⟨hTJ, hR, hOL, hCA, hSy⟩ := id hI
  have hv1 : ∀ v, D.tV f ≤ v → v < D.tV (f + 1) → _ := fun v h1 h2 => (hSy.2.1 v (hPf.tv h1 h2)).nat hTJ
  obtain ⟨o1, o2, o3, o4, o5, o6, ⟨l60, llen, hNM, hBX, hNU, h184⟩, ⟨hQ, hpe, hpe2⟩, h7778, how, h76, frc, f50, f74, ⟨f8182, f7980⟩, hBt, ⟨S0, hs1, hs2⟩, ⟨ebl, eR, hpe0, _⟩, frx⟩ := hO
  obtain ⟨⟨N, C, c, h, H, S⟩, ⟨Nm, M, r, hm, Hm, Sm, Sh⟩, Z⟩ := T'
  obtain ⟨q1, q2, q3⟩ : N = T.1.1 ∧ C = yG T ∧ c = yC T := o1
  obtain ⟨q4, q5, q6⟩ : Nm = T.2.1.1 ∧ M = T.2.1.2.1 ∧ r = T.2.1.2.2.1 := o2
  have q7 : Z = T.2.2 := o3
  subst q1 q2 q3 q4 q5 q6 q7
  obtain ⟨hCT, hMY, hJ⟩ : CT K1 K2 T.1.1 (yG T) (yC T) h H S σ' ∧ MY T.2.1.1 T.2.1.2.1 T.2.1.2.2.1 hm Hm Sm Sh τ' ∧ JZ T.1.1 (yG T) (yC T) h T.2.1.1 T.2.1.2.1 T.2.1.2.2.1 hm T.2.2 := o4
  obtain ⟨hl, hv, ⟨m1, m2, m3, m4, m5⟩, gM, m6, m7⟩ := id hMY
  obtain ⟨gC, tC, hKc⟩ : gP (yG T) (yC T) ∧ TC T.1.1 (yG T) (yC T) σ' ∧ ∀ t v, yC T t = t → h t v → (yG T).1 t = 4 := by
    obtain ⟨hl', hv', h1, h2, h3, _, _, h6, h7, h8⟩ := hCT
    refine ⟨h6, h1, fun t v e k => ?_⟩
    rw [h8] at k
    obtain ⟨i, i1, _⟩ := k
    have hne : hl' t ≠ [] := fun q => by rw [q] at i1; cases i1
    by_cases q : t < T.1.1
    · exact h3 t q e hne
    · exact absurd (h7 t (by omega)) hne
  have hKm : ∀ t v, T.2.1.2.2.1 t = t → hm t v → T.2.1.2.1.1 t = 4 := fun t v e k => by
    rw [m7] at k
    obtain ⟨i, i1, _⟩ := k
    have hne : hl t ≠ [] := fun q => by rw [q] at i1; cases i1
    by_cases q : t < T.2.1.1
    · exact m3 t q e hne
    · exact absurd (m6 t (by omega)) hne
  have kc1 : ∀ x u, h (yC T x) u → (yG T).1 (yC T x) ≠ 1 := fun x u k => by rw [hKc _ u (gC.1 x) k]; decide
  have km1 : ∀ x u, hm (T.2.1.2.2.1 x) u → T.2.1.2.1.1 (T.2.1.2.2.1 x) ≠ 1 := fun x u k => by rw [hKm _ u (gM.1 x) k]; decide
  -- frames
  have rc1 : ∀ j, inL FRC j = false → ∀ i, rd σ' j i = rd σ j i := fun j hj i => frc.1 j hj i
  have rm1 : ∀ j, inL (123 :: FRX) j = false → ∀ i, rd τ' j i = rd τ j i := fun j hj i => frx.rd hj i
  have eo : ∀ q, oT σ' q = oT σ q := fun q => by unfold oT; rw [rc1 66 rfl]
  have ev : ∀ q, vT σ' q = vT σ q := fun q => by unfold vT; rw [rc1 67 rfl]
  have er : rT σ' f = rT σ f := by unfold rT; rw [rc1 68 rfl]
  have eom : ∀ q, oM τ' q = oM τ q := fun q => by unfold oM; rw [rm1 178 rfl]
  have evm : ∀ q, vM τ' q = vM τ q := fun q => by unfold vM; rw [rm1 179 rfl]
  have erm : rM τ' f = rM τ f := by unfold rM; rw [rm1 180 rfl]
  have epm : pnM D τ' = pnM D τ := pnM.at (fun j hj i => rm1 j (inL_off (S' := 123 :: FRX) (by decide) j hj) i)
  have hR' : PGR D σ' τ' := hR.to (fun j hj i => rc1 j (inL_off (S := prC) (S' := FRC) (by decide) j hj) i) (fun j hj i => rm1 j (inL_off (S := prM) (S' := 123 :: FRX) (by decide) j hj) i)
  have hty : TYc D f T.1.1 σ' := ⟨fun p h1 h2 => by rw [eo, rc1 66 rfl]; exact r1.1 p h1 h2, fun p v h1 h2 h3 => by rw [ev, rc1 67 rfl]; exact r1.2.1 p v h1 h2 h3, by rw [er, rc1 68 rfl]; exact r1.2.2⟩
  have hv67 : ∀ v, D.tV f ≤ v → v < D.tV (f + 1) → rd σ' 67 v = i32 (vT σ' v : Int) ∧ vT σ' v < T.1.1 := fun v h1 h2 => by
    rw [ev, rc1 67 rfl]; exact ⟨(hv1 v h1 h2).1, (hv1 v h1 h2).2.1⟩
  obtain ⟨lv, hlv⟩ : ∃ lv : Nat → Nat, ∀ v, v < D.tV (D.fc + 1) → lv v < m ∧ rd σ 30 v = i32 (lv v : Int) ∧ rd τ 146 v = i32 (lv v : Int) := by
    refine ⟨fun v => ix (rd σ 30 v), fun v hv => ?_⟩
    obtain ⟨k, k1, k2, k3⟩ := hGv.2.2 v hv
    have : ix (rd σ 30 v) = k := by rw [k2, i32_ixn (by omega)]
    show ix (rd σ 30 v) < m ∧ rd σ 30 v = i32 ((ix (rd σ 30 v) : Nat) : Int) ∧ rd τ 146 v = i32 ((ix (rd σ 30 v) : Nat) : Int)
    rw [this]; exact ⟨k1, k2, k3⟩
  obtain ⟨g1, g2, g3, g4, g5⟩ := id hGc
  obtain ⟨lx, lx1, lx2⟩ := g5 f hf
  have l139 : rd τ 139 f = i32 (lx : Int) := (hGm.2 f hf).trans lx2
  -- puts
  have hmem : ∀ e, e ∈ puL D G f (D.bP (f + 1) - D.bP f) → D.bP f ≤ e.1 ∧ e.1 < D.bP (f + 1) ∧ e.2 < D.np G f e.1 := fun e he => by
    have := puL_mem _ e he
    exact ⟨this.1, by omega, this.2.2⟩
  have hput : ∀ q i, D.bP f ≤ q → q < D.bP (f + 1) → i < D.np G f q → ∃ w : Nat, (puL D G f (D.bP (f + 1) - D.bP f))[w]? = some (q, i) := fun q i q1 q2 hi => by
    have h := puL_at (D := D) (Gs := G) (f := f) (q - D.bP f) i (by rw [show D.bP f + (q - D.bP f) = q by omega]; exact hi)
    rw [show D.bP f + (q - D.bP f) = q by omega] at h
    have h2 := puL_pre (D.bP (f + 1) - (q + 1)) _ _ _ h
    rw [show q - D.bP f + 1 + (D.bP (f + 1) - (q + 1)) = D.bP (f + 1) - D.bP f by omega] at h2
    exact ⟨_, h2⟩
  have hRm : ∀ x, x ∈ R ↔ ∃ e : Nat × Nat, e ∈ puL D G f (D.bP (f + 1) - D.bP f) ∧ T.2.1.2.2.1 (pnM D τ e.1 e.2) = x := fun x => by
    rw [eR]
    unfold nmK
    rw [nmL_mem]
    constructor
    · rintro (k | ⟨y, k1, k2⟩)
      · cases k
      · obtain ⟨e, e1, e2⟩ := List.mem_map.mp k1
        exact ⟨e, e1, by rw [e2]; exact k2⟩
    · rintro ⟨e, e1, e2⟩
      exact .inr ⟨_, List.mem_map.mpr ⟨e, e1, rfl⟩, e2⟩
  have hRr : ∀ x, x ∈ R → T.2.1.2.2.1 x = x := fun x hx => by
    obtain ⟨e, _, e2⟩ := (hRm x).mp hx
    rw [← e2]; exact gM.1 _
  have hRN : ∀ x, x ∈ R → x < T.2.1.1 := fun x hx => by
    obtain ⟨e, e1, e2⟩ := (hRm x).mp hx
    obtain ⟨k1, k2, k3⟩ := hmem e e1
    rw [← e2]
    exact m1.rlt (hJ.2.2.1 _ _ (r5.2.2.2 e.1 e.2 k1 k2 k3)).2
  have hin : ∀ q i, D.bP f ≤ q → q < D.bP (f + 1) → i < D.np G f q → T.2.1.2.2.1 (pnM D τ' q i) ∈ R := fun q i q1 q2 hi => by
    rw [epm]
    obtain ⟨w, hw⟩ := hput q i q1 q2 hi
    exact (hRm _).mpr ⟨(q, i), List.mem_of_getElem? hw, rfl⟩
  have hblm : ∀ x, x ∈ bl → ∃ (w : Nat) (e : Nat × Nat), (puL D G f (D.bP (f + 1) - D.bP f))[w]? = some e ∧ x = pnC D σ e.1 e.2 := fun x hx => by
    rw [ebl] at hx
    rcases bxL_mem _ _ hx with k | k
    · cases k
    · obtain ⟨e, e1, e2⟩ := List.mem_map.mp k
      obtain ⟨w, w1, w2⟩ := List.mem_iff_getElem.mp e1
      exact ⟨w, e, by rw [List.getElem?_eq_getElem w1, w2], e2.symm⟩
  have hblN : ∀ x, x ∈ bl → x < T.1.1 := fun x hx => by
    obtain ⟨w, e, w1, w2⟩ := hblm x hx
    obtain ⟨k1, k2, k3⟩ := hmem e (List.mem_of_getElem? w1)
    rw [w2]
    exact (hJ.2.2.1 _ _ (r5.2.2.2 e.1 e.2 k1 k2 k3)).1
  have hnd : (bl.map (yC T)).Nodup := by rw [ebl]; exact bxL_nodup _ _ List.nodup_nil
  have hgd : ∀ k, k < bl.length → bl.getD k 0 ∈ bl ∧ bl[k]? = some (bl.getD k 0) := fun k hk => by
    rw [List.getD_eq_getElem?_getD, List.getElem?_eq_getElem hk]
    exact ⟨List.getElem_mem hk, rfl⟩
  have hput2 : ∀ i, n0 ≤ i → i < n0 + (puL D G f (D.bP (f + 1) - D.bP f)).length → ∃ e : Nat × Nat, (puL D G f (D.bP (f + 1) - D.bP f))[i - n0]? = some e ∧ pe i = pnC D σ e.1 e.2 := fun i i1 i2 => by
    have hi : i - n0 < (puL D G f (D.bP (f + 1) - D.bP f)).length := by omega
    refine ⟨_, List.getElem?_eq_getElem hi, ?_⟩
    have := hpe2 (i - n0) _ (List.getElem?_eq_getElem hi)
    rw [show n0 + (i - n0) = i by omega] at this
    exact this
  have hnb : ∀ i, n0 ≤ i → i < n0 + (puL D G f (D.bP (f + 1) - D.bP f)).length → ∃ k, k < bl.length ∧ yC T (bl.getD k 0) = yC T (pe i) ∧ rd σ' 76 i = i32 (ow k) := fun i i1 i2 => by
    obtain ⟨e, e1, e2⟩ := hput2 i i1 i2
    obtain ⟨k1, k2, k3⟩ := hmem e (List.mem_of_getElem? e1)
    have hx := (hRm _).mpr ⟨e, List.mem_of_getElem? e1, rfl⟩
    obtain ⟨k, hk, ek⟩ := List.mem_iff_getElem.mp hx
    have hk' : R[k]? = some (T.2.1.2.2.1 (pnM D τ e.1 e.2)) := by rw [List.getElem?_eq_getElem hk, ek]
    have hkb : k < bl.length := by rw [llen]; exact hk
    refine ⟨k, hkb, ?_, ?_⟩
    · rw [e2, hJ.1.1 _ _ _ _ (hNM.2 k _ _ (hgd k hkb).2 hk') (r5.2.2.2 e.1 e.2 k1 k2 k3), gM.1]
    · have := (h76 (i - n0) k e e1 ⟨k1, k2, k3, hk'⟩).1
      rw [show n0 + (i - n0) = i by omega] at this
      exact this
  have hcov : ∀ k, k < bl.length → ∃ i, n0 ≤ i ∧ i < n0 + (puL D G f (D.bP (f + 1) - D.bP f)).length ∧ yC T (bl.getD k 0) = yC T (pe i) := fun k hk => by
    obtain ⟨w, e, w1, w2⟩ := hblm _ (hgd k hk).1
    have hw : w < (puL D G f (D.bP (f + 1) - D.bP f)).length := by
      apply Classical.byContradiction
      intro hn
      rw [List.getElem?_eq_none (by omega)] at w1; cases w1
    exact ⟨n0 + w, by omega, by omega, by rw [hpe2 w e w1, w2]⟩
  have hfr : FRm D f (n0 + (puL D G f (D.bP (f + 1) - D.bP f)).length) (frO D G f n0) σ' := ⟨fun p h1 h2 => (h7778 p h1 h2).1, fun p q h1 h2 _ => frO.mono p q h1 h2, rfl, by omega⟩
  have hfr0 : frO D G f n0 (D.bP f) = n0 := by
    unfold frO
    rw [Nat.sub_self]; rfl
  have hown : ∀ k, k < bl.length → -1 ≤ ow k ∧ ow k < 4101 := fun k hk => (how k (by rw [← llen]; exact hk)).2
  have e7418 : rd σ' 74 18 = i32 (kc0 : Int) := by rw [f74 18 (by decide) (by decide)]; exact hk18
  obtain ⟨plc, ML, PL, p1, p2, p3, p4, p5, p6⟩ := tail_c (L := L) (xs := xs) (lx := lx) (lv := lv) hF hf hR' hK2 hCT hQ hpe (by omega) hBX hblN hnd l60 hfr hfr0 (fun p h1 h2 => (h7778 p h1 h2).2) hpt hnb hown hcov hty hv67 (hGv.to (fun i => rc1 15 rfl i) (fun i => rc1 30 rfl i) (fun i => rm1 146 rfl i)) (fun v hv => by rw [rc1 30 rfl]; exact ⟨(hlv v hv).2.1, (hlv v hv).1⟩) (by rw [rc1 43 rfl]; exact lx2) (by omega) (by rw [rc1 13 rfl]; exact (h13 lx lx1).2) e7418 (by rw [(frc.2.2 85 rfl).1]; exact hk85) hkc (by rw [rc1 65 rfl]; exact h13r) (by rw [(frc.2.2 73 rfl).1]; exact hrf) hrf2 hS d v3 v4 v5
  have hNm : T.2.1.1 < 100000 := by have := hTJ.2.2.2.2.2.2.1; omega
  have hC40 : ∀ j k, D.bF f ≤ j → j < D.bF (f + 1) → k ≤ by' j + 1 - D.st (by' j) → (cgF D (pt j) (D.st (by' j)) k).length ≤ 40 := fun j k j1 j2 hk => by
    obtain ⟨a1, a2, a3, a4, a5⟩ := hpt j j1 j2
    have hp := hPf.2.2.1 (pt j) a1 a2
    have hlen := hp.2.2.1 (by omega)
    rw [a3] at hlen
    have hc := hp.2.1
    have hb : D.st (by' j) = D.st (pt j) ∧ by' j + 1 = pt j := by
      cases hk : D.kd (pt j) with
      | nil => rw [hk] at a5; cases a5
      | cons x r =>
        rw [hk] at a5 hc hlen
        have hx : x = by' j := Option.some.inj a5
        cases r with
        | nil => rw [hx] at hc; exact ⟨hc.1, hc.2.2.2⟩
        | cons _ _ => cases hlen
    have h1 := hCX (pt j) (by omega) a3
    have hbF : D.bF (f + 1) ≤ D.bF (D.fc + 1) := by
      have hle : ∀ j g, g + j = D.fc + 1 → D.bF g ≤ D.bF (D.fc + 1) := by
        intro j
        induction j with
        | zero => intro g e; rw [show g = D.fc + 1 by omega]; exact Nat.le_refl _
        | succ j ih => intro g e; exact Nat.le_trans (hF.2.2 g (by omega)).1.2.2.1 (ih (g + 1) (by omega))
      exact hle (D.fc - f) (f + 1) (by omega)
    have h2 := (g3 j (by omega)).2.1
    have h3 := cgF_le (D := D) (P := pt j) (s := D.st (pt j)) (pt j - D.st (pt j) - k) k
    rw [show k + (pt j - D.st (pt j) - k) = pt j - D.st (pt j) by omega, ← h1, a4, List.length_map] at h3
    rw [hb.1]
    omega
  obtain ⟨plm, DL, w1, w2, w3, w4⟩ := rtail_m (L := L) (xs := xs) (τ := τ') (σ := σ') (Gs := G) (B := Bm) (R := R) (ow := ow) (pt := pt) (by' := by') (cf0 := cf0) (kf0 := kf0) (lx := lx) (lv := lv) hF hf hR' (r2.at (fun j hj i => rm1 j (inL_off (S' := 123 :: FRX) (by decide) j hj) i)) (r4.at (fun j hj i => rm1 j (inL_off (S' := 123 :: FRX) (by decide) j hj) i)) ((hGm.1 f hf).at (fun j hj i => rm1 j (inL_off (S' := 123 :: FRX) (by decide) j hj) i)) (by omega) hNU hRN (by
      rw [hs2]
      have := (hGm.1 f hf).1.1
      rw [hs1] at this
      exact this) hin how hNm gM.1 ⟨m1, m2, m4⟩ m5 ⟨m3, m6⟩ (fun t h1 h2 h3 => hBt t h1 h2 (by
        show RQ T.2.1.2.1 T.2.1.2.2.1 hm (FTm D f τ) t
        rw [m7]
        refine h3.mono (fun b hb => ?_)
        rcases hb with ⟨p, p1, p2, e⟩ | ⟨v, p1, p2, e⟩ | e
        · exact .inl ⟨p, p1, p2, by rw [e, eom]⟩
        · exact .inr (.inl ⟨v, p1, p2, by rw [e, evm]⟩)
        · exact .inr (.inr (by rw [e, erm])))) (fun v hv => by rw [rm1 146 rfl]; exact ⟨(hlv v hv).2.2, (hlv v hv).1⟩) hpt hC40 hcf hkf (by rw [frx.2.1 103 rfl]; exact h103) (by rw [frx.2.1 107 rfl]; exact h107) (by rw [frx.2.1 5 rfl]; exact h5) (by rw [rm1 139 rfl]; exact l139) (by omega) hSm (by
          have hSh' : Sh + 100000 < 2147483648 := hSh
          omega) dm u2 u3
  rw [← m7] at w1 w3
  have h13' : ∀ l, l < m → rd σ' 13 l = rd τ' 127 l ∧ rd σ' 13 l ≠ i32 (-1) := fun l hl => by rw [rc1 13 rfl, rm1 127 rfl]; exact h13 l hl
  have hvN : D.tV (f + 1) ≤ D.tV (D.fc + 1) := by
    have hle : ∀ j g, g + j = D.fc + 1 → D.tV g ≤ D.tV (D.fc + 1) := by
      intro j
      induction j with
      | zero => intro g e; rw [show g = D.fc + 1 by omega]; exact Nat.le_refl _
      | succ j ih => intro g e; exact Nat.le_trans (by have := (hF.2.2 g (by omega)).1.2.1; omega) (ih (g + 1) (by omega))
    exact hle (D.fc - f) (f + 1) (by omega)
  have hlt2 := hPf.1.2.1
  have hlxm : ∀ q, D.bP f ≤ q → q < D.bP (f + 1) → D.lx q < m := fun q h1 h2 => (hPf.2.2.1 q h1 h2).1.2.1
  have zo : ∀ q, D.bP f ≤ q → q < D.bP (f + 1) → T.2.2 (oT σ' q) (oM τ' q) := fun q h1 h2 => by rw [eo, eom]; exact r5.1 q h1 h2
  have zv : ∀ q, D.tV f ≤ q → q < D.tV (f + 1) → T.2.2 (vT σ' q) (vM τ' q) := fun q h1 h2 => by rw [ev, evm]; exact (hv1 q h1 h2).2.2.2.2.1
  have epl : plc = plm := by
    rw [p1, w1, wfo_congr (b' := fun q => gbN T.2.1.2.1 T.2.1.2.2.1 hm (oM τ' q)) (it' := fun q => rd τ' 127 (D.lx q)) _ _ _ (fun q h1 h2 => ⟨gbN_zz hJ.1 hJ.2.1 gC.1 gM.1 kc1 km1 (zo q h1 (qb q h2)), (h13' _ (hlxm q h1 (qb q h2))).1⟩)]
    exact wfo_congr _ _ _ (fun q h1 h2 => ⟨gbN_zz hJ.1 hJ.2.1 gC.1 gM.1 kc1 km1 (zv q h1 (qv q h2)), (h13' _ (hlv q (Nat.lt_of_lt_of_le (qv q h2) hvN)).1).1⟩)
  have zr : T.2.2 (rT σ' f) (rM τ' f) := by rw [er, erm]; exact r5.2.2.1
  have MC := MSR.c hKc p2 p3 p4 p5
  have MM := MSR.m (hv := hv) (hl := hl) w2 (by rw [← m7]; exact w3)
  rw [← m7] at MM
  have LE1 := MC.le hJ.1 gC.1 gM.1 hJ.2.1.1 kc1 (fun b hb => by
    rcases hb with e | ⟨k, k1, e⟩
    · exact ⟨_, .inl rfl, by rw [e]; exact zr⟩
    · exact ⟨_, .inr ⟨k, k1, rfl⟩, by rw [e]; exact zv _ (by omega) (by omega)⟩) MM
  have LE2 := MM.le hJ.1.flip gM.1 gC.1 (fun x y u a b d => hJ.2.1.2 y x u a b d) km1 (fun b hb => by
    rcases hb with e | ⟨k, k1, e⟩
    · exact ⟨_, .inl rfl, by rw [e]; exact zr⟩
    · exact ⟨_, .inr ⟨k, k1, rfl⟩, by rw [e]; exact zv _ (by omega) (by omega)⟩) MC
  have E1 : ML.length - unk (yG T) ML = (bxs T.2.1.2.1 DL).length := Nat.le_antisymm LE1.1 LE2.1
  have E2 : unk (yG T) ML = unk T.2.1.2.1 DL := Nat.le_antisymm LE1.2.1 LE2.2.1
  have E3 : PL.length = (hpr T.2.1.2.1 T.2.1.2.2.1 hv hl DL).length := Nat.le_antisymm LE1.2.2 LE2.2.2
  rw [E1, E2, E3] at p6
  rw [E1, E2, E3] at MC
  rcases p6 with ⟨s, c1, c2⟩ | ⟨c0, c1, σ2, S', kc, kf, c2, c3, c4, c5⟩
  · -- a fault
    left
    rcases w4 with ⟨t2, d1, d2, d3⟩ | ⟨d0, d1, _⟩
    · rcases c1 with ⟨k1, k2⟩ | ⟨k1, k2, k3⟩
      · rcases d3 with ⟨_, d3⟩ | ⟨k, _⟩
        · exact ⟨s, t2, plc, k2, d1, d2, by rw [d3, epl], c2⟩
        · exact absurd (by rw [epl]; exact k) k1
      · rcases d3 with ⟨k, _⟩ | ⟨_, _, d3⟩
        · exact absurd (by rw [← epl]; exact k1) k
        · exact ⟨s, t2, _, k3, d1, d2, by rw [d3, (h13' lx lx1).1], c2⟩
    · rcases c1 with ⟨k1, _⟩ | ⟨_, k2, _⟩
      · exact absurd (by rw [epl]; exact d0) k1
      · exact absurd k2 d1
  · right
    rcases w4 with ⟨t2, d1, d2, d3⟩ | ⟨d0, d1, τ2, Sh', cf, kg, gf, gk, d2, d3, d4, d5, d6, d7⟩
    · rcases d3 with ⟨k, _⟩ | ⟨_, k, _⟩
      · exact absurd (by rw [← epl]; exact c0) k
      · exact absurd k c1
    refine ⟨σ2, τ2, ((T.1.1, yG T, yC T, h, H, S'), (T.2.1.1, T.2.1.2.1, T.2.1.2.2.1, hm, Hm, Sm + (D.bP (f + 1) - D.bP f) + (D.tV (f + 1) - D.tV f) + 1, Sh'), T.2.2), kc, cf, kg, kf, gf, gk, c2, d2, ⟨c3, ⟨hl, hv, ⟨d3.1, d3.2.1, m3, d3.2.2, d4⟩, gM, m6, m7⟩, hJ⟩, ⟨rfl, rfl, rfl, rfl, rfl, c4⟩, ⟨rfl, rfl, rfl, rfl, rfl, rfl, by
      show Sh' ≤ Sh + 100000
      omega⟩, rfl, ?_, ⟨_, d7⟩, ?_⟩
    · obtain ⟨KLc, eKLc⟩ : ∃ K, K = (fun j => nfil (mkC D f by' (yC T) pe bl ow (frO D G f n0) j) bl.length) := ⟨_, rfl⟩
      rw [← eKLc] at c5
      obtain ⟨x1, x2, x3, x4, x5, x6, x7⟩ := c5
      refine ⟨x1, x2, x3, x4, x5, fun i i1 i2 => ?_, x7⟩
      have e : nfil (mkC D f by' (yC T) pe bl ow (frO D G f n0) i) bl.length = nfil (mkM D G f T.2.1.2.2.1 R ow τ' (by' i)) R.length := by
        rw [llen]
        refine nfil_congr _ (fun k hk => mk_eq (n := n0 + (puL D G f (D.bP (f + 1) - D.bP f)).length) hF hf hJ.1 gM.1 hNM hRr (fun q i q1 q2 hi => by rw [epm]; exact r5.2.2.2 q i q1 q2 hi) hpe2 (fun k hk => (how k hk).2.1) (fun q i' k q1 q2 hi hk => ?_) hpt i1 i2 hk)
        obtain ⟨w, hw⟩ := hput q i' q1 q2 hi
        rw [epm] at hk
        exact ⟨_, (h76 w k (q, i') hw ⟨q1, q2, hi, hk⟩).2⟩
      have := x6 i i1 i2
      rw [show KLc i = nfil (mkM D G f T.2.1.2.2.1 R ow τ' (by' i)) R.length by rw [eKLc]; exact e] at this; exact this
    · obtain ⟨x1, x2, x3, x4, x5, x6, x7, x8, x9, x10, x11⟩ := c5
      have y1 := d7.2.2.2.2.2.2.2.2.2.2
      have eo2 : ∀ q, oT σ2 q = oT σ' q := fun q => by unfold oT; rw [x10.1 66 rfl]
      have ev2 : vT σ2 = vT σ' := by funext q; unfold vT; rw [x10.1 67 rfl]
      have er2 : rT σ2 f = rT σ' f := by unfold rT; rw [x10.1 68 rfl]
      have evm2 : vM τ2 = vM τ' := by funext q; unfold vM; rw [y1.rd (j := 179) rfl]
      have erm2 : rM τ2 f = rM τ' f := by unfold rM; rw [y1.rd (j := 180) rfl]
      have nn := wfo_none _ _ _ (fun q h1 h2 => (h13' _ (hlv q (Nat.lt_of_lt_of_le (qv q h2) hvN)).1).2) (p1.symm.trans c0)
      have nn2 := wfo_none _ _ _ (fun q h1 h2 => (h13' _ (hlxm q h1 (qb q h2))).2) nn.2
      refine ⟨⟨(bxs T.2.1.2.1 DL).length, unk T.2.1.2.1 DL, (hpr T.2.1.2.1 T.2.1.2.2.1 hv hl DL).length, Nat.le_of_not_lt (fun k => c1 (.inl k)), Nat.le_of_not_lt (fun k => c1 (.inr (.inl k))), Nat.le_of_not_lt (fun k => c1 (.inr (.inr k))), ?_, ?_, d7.2.2.1⟩, fun p h1 h2 k => ?_, fun v h1 h2 k => ?_⟩
      · rw [ev2, er2]; exact MC
      · rw [evm2, erm2]; exact MM
      · rw [eo2] at k
        have := nn2.1 p h1 (qb' p h1 h2)
        rw [gbN_t k] at this; cases this
      · rw [ev2] at k
        have := nn.1 v h1 (qv' v h1 h2)
        rw [gbN_t k] at this; cases this
end TAILJ
