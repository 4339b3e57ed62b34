/-! READING: two become one -/
section BIN
variable {L : Nat} {xs : Nat → Int32} {K1 K2 m : Nat} {μ : Nat → Nat} {g fc : Nat} {sc : List Nat} {fs fs' : List (Nat × Nat × List Nat)} {F D H n A P r r0 : Nat} {σ τ σ' τ' σ1 τ1 : tvS}
theorem ST.prt (h : ST K1 K2 m μ g fc sc fs D H n A P r σ τ) {p : Nat} (hp : p < P) : ∃ S, prtR A S σ τ p := by
  obtain ⟨F, ⟨⟨V, S, C, q, cp, a1, a2, a3, a5, a9, a10, a12, a13, a14, a15, a16, a17⟩, _⟩, _⟩ := h
  exact ⟨S, a16 p hp⟩
theorem CORE.last (h : CORE K1 K2 m μ g fc sc fs F A P r σ τ) (hA : A ≤ 5000) {p : Nat} (hp : p < P) : ix (rd σ 18 p) < A := by
  obtain ⟨V, S, C, q, cp, a1, a2, a3, a5, a9, a10, a12, a13, a14, a15, a16, a17⟩ := h
  obtain ⟨κ, s, kids, _, _, _, _, _, ⟨a, b, _, b2, _, b4, _⟩, _⟩ := a16 p hp
  rw [b2, i32_ixn (by omega)]; exact b4
theorem ST.last (h : ST K1 K2 m μ g fc sc fs D H n A P r σ τ) {p : Nat} (hp : p < P) : ix (rd σ 18 p) < A := by
  have hm := h.all
  obtain ⟨F, ⟨hc, hs, _⟩, _⟩ := h
  exact hc.last (by have := hs.2.2.2.2.2.2.2.1; have := hm.2.2.2.2.2.2.2.1; omega) hp
theorem ST.s161 (h : ST K1 K2 m μ g fc sc fs D H n A P r σ τ) {p P0 : Nat} (hp : p < P) (hT : rd σ 26 p = i32 P0) : rd τ 161 p = i32 P0 := by
  obtain ⟨S, κ, s, kids, a1, a2, a3, a4, a5, a6, a10, a11, _⟩ := h.prt hp
  rw [a11, ← a10]; exact hT
/-- what stays when a part is made -/
theorem OLD.node {κ st P0 H' : Nat} {f l s x y k : Int32} {kids C : List Nat} (nC : nodC σ σ1 P κ f l s st kids) (nM : nodM τ τ1 P k x y st kids) (hxC : xC σ1 σ' P) (hk : ∀ c, c ∈ kids → P0 ≤ c) (hP : P0 ≤ P) (h63 : ∀ i, i < H' → rd σ' 63 i = rd σ 63 i)
    (hM : ∀ j i, 132 ≤ j → j ≤ 137 → (j ≤ 134 → i < n) → (135 ≤ j → i < r) → rd τ' j i = rd τ1 j i) (hX : ∀ j i, 138 ≤ j ∧ j ≤ 150 ∨ j = 202 ∨ j = 160 ∨ j = 123 ∧ i = 42 → rd τ' j i = rd τ1 j i) (h13 : rd σ 15 13 = i32 P) (hP4 : P < 4101) (hbn : ∀ v, bnd σ' P v → v ∈ C) : OLDg [] C n r H' P0 σ τ σ' τ' := by
  obtain ⟨c1, c2, _, _, _, c6, c7⟩ := nC
  obtain ⟨m1, m2, _⟩ := nM
  obtain ⟨x1, x2⟩ := hxC
  have hl : σ'.2 = σ.2 := x2.trans c7
  have hc : ∀ j i, j < 62 → rgN 16 29 j = false → (j = 15 → i ≠ 13) → rd σ' j i = rd σ j i := fun j i h1 h2 h3 => by
    rw [x1 j i (fun q => by rcases q.2 with e | e <;> rw [e] at h2 <;> cases h2) (scC_lo h1)]; exact c2 j i h2 h3
  refine ⟨fun i hi j h1 h2 => (hM j i h1 (by omega) (by omega) (by omega)).trans (m2 j i (by omega) (by omega)), fun i hi j h1 h2 => (hM j i (by omega) h2 (by omega) (by omega)).trans (m2 j i (by omega) (by omega)), h63, fun p hp j h1 h2 => ?_, fun v hv => ⟨by unfold rl; rw [hl], hc 31 v (by omega) rfl (by omega), hc 32 v (by omega) rfl (by omega), hc 33 v (by omega) rfl (by omega)⟩, ?_, fun j _ i => by unfold rl; rw [hl], OLX.of (fun j i h => ?_) (fun j i h => ?_), MB.node h13 hP4 ((x1 15 13 (by omega) rfl).trans c6) (hc 15 19 (by omega) rfl (by omega)) (fun j i hi h => by
    rw [x1 j i (by omega) (scC_lo (by omega))]
    exact c1 j i (by omega) (by omega) (by omega)) hbn⟩
  · rw [x1 j p (by omega) (scC_lo (by omega))]
    exact c1 j p (by omega) (fun q => by have := hk p q.1; omega) (by omega)
  · rw [hc 15 19 (by omega) rfl (by omega)]; exact Nat.le_refl _
  · rcases h with h | h
    · exact hc j i (by omega) (rgN_no (by omega)) (by omega)
    · rw [x1 j i (by omega) (scC_lo (by omega))]
      exact c1 j i (by omega) (by omega) (by omega)
  · rw [hX j i (by omega)]
    by_cases e : j = 160
    · exact m1 j i (by omega) (by omega) (by omega)
    · exact m2 j i (by omega) (by omega)
theorem RF.node {κ st A0 P0 : Nat} {l s : Int32} {kids : List Nat} (nC : nodC σ σ1 P κ (i32 A0) l s st kids) (hxC : xC σ1 σ' P) (hA : A0 < 5000) (hR : RF A0 P0 P σ) : RF A0 P0 (P + 1) σ' := fun q h1 h2 => by
  rw [hxC.1 17 q (by omega) rfl]
  by_cases e : q = P
  · rw [e, nC.2.2.1.2.1, i32_ixn (by omega)]; exact Nat.le_refl _
  · rw [nC.1 17 q e (by omega) (by omega)]; exact hR q h1 (by omega)
theorem bin_ok {κ X A0 A2 P0 P1 p1 p2 H' : Nat} {a b : Int32} (hST : ST K1 K2 m μ g fc sc fs D H (n + 1) A2 P (r + 2) σ τ) (hT1 : PT P0 p1 σ) (hT2 : PT P1 p2 σ) (hp1 : p1 + 1 = P1) (hp2 : p2 + 1 = P)
    (hr1 : rd τ 135 r = i32 p1) (hr2 : rd τ 135 (r + 1) = i32 p2) (hr3 : κ ≠ 4 → rd τ 136 r = i32 A0 ∧ rd τ 137 (r + 1) = i32 (A2 - 1 : Nat)) (hI : IT τ n X a b) (hA : A0 < A2) (hw : P + 1 ≤ wch μ A2)
    (nC : nodC σ σ1 P κ (i32 A0) (i32 (A2 - 1 : Nat)) (rd σ 62 5) P0 [p1, p2]) (hxC : xC σ1 σ' P) (e8 : rd σ' 62 8 = i32 A0) (e9 : rd σ' 62 9 = i32 (A2 - 1 : Nat)) (e3 : rd σ' 62 3 = i32 A2) (e4 : rd σ' 62 4 = i32 D) (e11 : rd σ' 62 11 = i32 H') (hH : H' ≤ 3 * A2) (h63 : ∀ i, i < H' → rd σ' 63 i = rd σ 63 i)
    (hR : ∀ q, P0 ≤ q → q < P → A0 ≤ ix (rd σ 17 q)) (hsg : κ = 16 → A0 ≤ ix a ∧ ix a ≤ A2 - 1) (hcase : (8 ≤ κ ∧ κ ≤ 15 ∧ X = 20 ∧ a = i32 (opS κ)) ∨ (κ = 16 ∧ X = 21 ∧ rd σ' 19 P = a) ∨ (κ = 7 ∧ X = 22) ∨ (κ = 4 ∧ X = 31 ∧ a = i32 A0)) :
    ∃ τ', mS L xs τ τ' ∧ ST K1 K2 m μ g fc sc fs D H' n A2 (P + 1) (r + 1) σ' τ' ∧ TOP A0 P0 A2 (P + 1) r σ' τ' ∧ OLD n r H' P0 σ τ σ' τ' := by
  obtain ⟨o1, o2, o3, o4, ⟨o5, o5'⟩, o6, ⟨s1, s2, s3, s4, s5, s6, s7, s8, s9, s10, s11, s12⟩, o8, o9, o10⟩ := hST.all
  obtain ⟨t1, t2, t3, t4, t5, t6⟩ := hT1
  obtain ⟨u1, u2, u3, u4, u5, u6⟩ := hT2
  have hSTp : ST K1 K2 m μ g fc sc fs D H n A2 P (r + 2) σ (wr τ 123 18 (i32 n)) := hST.ag agC.refl (agM.refl.wr rfl) (Nat.le_refl _) s8 s9 s10 (by omega) s1 (by rw [rd_wr, if_neg (by omega)]; exact s2) s3 (by rw [rd_wr, if_neg (by omega)]; exact s4) s5 (by rw [rd_wr, if_pos ⟨rfl, rfl⟩]) (by rw [rd_wr, if_neg (by omega)]; exact s7)
  generalize hτp : wr τ 123 18 (i32 n) = τp at hSTp
  have hp : ∀ j i, ¬ (j = 123 ∧ i = 18) → rd τp j i = rd τ j i := fun j i h => by rw [← hτp, rd_wr, if_neg h]
  obtain ⟨τ1, y1, y2, y3, y4, y5⟩ := mtwo (L := L) (xs := xs) (τ := τp) (r := r) (P := P) (c1 := p1) (c2 := p2) (s1 := P0) (s2 := P1) ((hp _ _ (by omega)).trans s7) (by omega) ((hp _ _ (by omega)).trans o5') (by omega) ((hp _ _ (by omega)).trans hr1) ((hp _ _ (by omega)).trans hr2) (by omega) (by omega) (hSTp.s161 (by omega) t2) (hSTp.s161 (by omega) u2) (by omega) (by omega) (by omega) (i32 (mKd κ))
  have hk : contK σ P0 [p1, p2] P := ⟨t2, t1, by omega, by rw [hp1]; exact u2, by rw [hp1]; exact u1, by omega, hp2⟩
  have hkids : ∀ w, w < 3 → rd σ' (20 + w) P = kid [p1, p2] w := fun w hw => by rw [hxC.1 (20 + w) P (by omega) (scC_lo (by omega))]; exact nC.2.2.2.1 w hw
  have hge : ∀ c, c ∈ [p1, p2] → P0 ≤ c := by
    intro c hc
    rcases List.mem_cons.mp hc with e | e
    · omega
    · rw [List.mem_singleton.mp e]; omega
  have fin : ∀ τ2 : tvS, (∀ j i, ¬ (i = P ∧ (j = 152 ∨ j = 153 ∨ j = 157 ∨ j = 158)) → rd τ2 j i = rd τ1 j i) → rd τ2 152 P = i32 A0 → rd τ2 153 P = i32 (A2 - 1 : Nat) → (8 ≤ κ → κ ≤ 15 → rd τ2 157 P = i32 (opS κ)) → (κ = 16 → rd τ2 158 P = rd σ' 19 P) → (κ = 4 → rd τ2 158 P = rd σ' 18 P) → (8 ≤ κ ∧ κ ≤ 15 ∨ κ = 16 ∨ κ = 7 ∨ κ = 4) →
      (∀ dm, rn L xs (dm + 7) 324 0 [.ref 123, .int (i32 X), .int a, .int b, jv] [] τp = some (.inl none, mBec τ2 r P)) → (X = 20 ∨ X = 21 ∨ X = 22 ∨ X = 31) → ∃ τ', mS L xs τ τ' ∧ ST K1 K2 m μ g fc sc fs D H' n A2 (P + 1) (r + 1) σ' τ' ∧ TOP A0 P0 A2 (P + 1) r σ' τ' ∧ OLD n r H' P0 σ τ σ' τ' := by
    intro τ2 z1 z2 z3 z4 z5 z6 zκ z7 zX
    have hb : ∀ j i, ¬ (135 ≤ j ∧ j ≤ 137 ∧ i = r) → ¬ (j = 123 ∧ i = 22) → ¬ (i = P ∧ (j = 152 ∨ j = 153 ∨ j = 157 ∨ j = 158)) → rd (mBec τ2 r P) j i = rd τ1 j i := fun j i h1 h2 h3 => (mBec_oth h1 h2).trans (z1 j i h3)
    have hbn : ∀ j i, ¬ (135 ≤ j ∧ j ≤ 137 ∧ i = r) → ¬ (j = 123 ∧ (i = 22 ∨ i = 46)) → ¬ (151 ≤ j ∧ j ≤ 163) → rd (mBec τ2 r P) j i = rd τp j i := fun j i h1 h2 h3 => (hb j i h1 (by omega) (by omega)).trans (y2.2.1 j i h3 (by omega))
    obtain ⟨b1, b2, b3, b4⟩ := mBec_at (τ := τ2) (r := r) (P := P)
    have hmS : mS L xs τ (mBec τ2 r P) := by
      have e355 : ∀ pc, ((insP 310 41).bind fun q => tv_sw q.1 41 (i32 X)) = some pc → pc = 355 → mS L xs τ (mBec τ2 r P) := by
        intro pc h1 h2
        subst h2
        refine nx s6 (by omega) o3 hI h1 (fun dm => ?_)
        rw [hτp, e310_355 (dm + 7), bV_ok (z7 dm), e310_362]
      rcases zX with e | e | e | e <;> subst e <;> exact e355 355 (by decide +kernel) rfl
    have v1 : rd (mBec τ2 r P) 154 P = rd σ' 20 P := by rw [hb 154 P (by omega) (by omega) (by omega), y3]; exact (hkids 0 (by omega)).symm
    have v2 : rd (mBec τ2 r P) 155 P = rd σ' 21 P := by rw [hb 155 P (by omega) (by omega) (by omega), y4]; exact (hkids 1 (by omega)).symm
    have v3 : rd (mBec τ2 r P) 156 P = rd σ' 22 P := by rw [hb 156 P (by omega) (by omega) (by omega), y5]; exact (hkids 2 (by omega)).symm
    obtain ⟨w1, w2⟩ := hSTp.node (κ := κ) (a := A0) (b := A2 - 1) (st := P0) (kids := [p1, p2]) (r0 := r) (D' := D) (H' := H') (n' := n) (A' := A2) (σ' := σ') (τ' := mBec τ2 r P) (by omega) (by omega) (by omega) (by omega) nC y2 hxC
      (fun j i h1 h2 => by
        by_cases h3 : j = 123 ∧ i = 22
        · rw [h3.1, h3.2] at h2; cases h2
        · exact hb j i (fun q => by
            have : rgN 132 138 j = true := by unfold rgN; rw [Nat.ble_eq_true_of_le (by omega), Nat.blt_eq.mpr (by omega)]; rfl
            unfold scM at h2; rw [this] at h2; cases h2) h3 (by omega))
      hk (fun c hc => by rcases List.mem_cons.mp hc with e | e
                         · rw [e]; exact t3
                         · rw [List.mem_singleton.mp e]; exact u3)
      ((mBec_oth (by omega) (by omega)).trans z2) ((mBec_oth (by omega) (by omega)).trans z3) (by omega) (by omega) (fun q => by rcases hcase with h | h | h | h; omega; rw [h.2.2]; exact hsg q; omega; omega) (nnR_no (by omega) (by omega) (by omega) (by omega))
      ⟨fun q => absurd q (by omega), fun q => absurd q (by omega), fun q => absurd q (by omega), fun q1 q2 => (mBec_oth (by omega) (by omega)).trans (z4 q1 q2), fun q => (mBec_oth (by omega) (by omega)).trans (z5 q), fun q => (mBec_oth (by omega) (by omega)).trans (z6 q), fun q => absurd q (by omega), fun q => absurd q (by omega), fun _ => ⟨v1, v2, v3, hkids⟩, fun q => absurd q (by omega)⟩
      (fun w c hw2 => by
        rw [scl_no (by omega) (by omega) (by omega)]
        have hc := List.mem_of_getElem? hw2
        rcases List.mem_cons.mp hc with e | e
        · rw [e, t6]; exact hSTp.ch
        · rw [List.mem_singleton.mp e, u6]; exact hSTp.ch) (ownR_no (by omega) (by omega) (by omega)) (ari2 κ (by omega) (by omega)).symm
      (Nat.le_refl _) s8 s9 hH (by omega) hw e3 ((hbn _ _ (by omega) (by omega) (by omega)).trans ((hp _ _ (by omega)).trans s2)) e4 ((hbn _ _ (by omega) (by omega) (by omega)).trans ((hp _ _ (by omega)).trans s4)) e11 ((hbn _ _ (by omega) (by omega) (by omega)).trans (by rw [← hτp, rd_wr, if_pos ⟨rfl, rfl⟩])) b4
    have h17 : ∀ q, P0 ≤ q → q < P + 1 → A0 ≤ ix (rd σ' 17 q) := fun q h1 h2 => by
      rw [hxC.1 17 q (by omega) rfl]
      by_cases e : q = P
      · rw [e, nC.2.2.1.2.1, i32_ixn (by omega)]; exact Nat.le_refl _
      · rw [nC.1 17 q e (by omega) (by omega)]; exact hR q h1 (by omega)
    refine ⟨_, hmS, w1, ⟨⟨hA, h17⟩, by omega, e8, e9, b1, b2.trans z2, b3.trans z3, w2⟩, ?_⟩
    have := OLD.node (n := n) (r := r) (P0 := P0) (τ' := mBec τ2 r P) nC y2 hxC (fun c hc => hge c hc) (by omega) h63 (fun j i h1 h2 h3 h4 => hb j i (by omega) (by omega) (by omega)) (fun j i h => hb j i (by omega) (by omega) (by omega)) o5 (by omega) (fun v hv => nobnd (κ := κ) ((hxC.1 16 P (by omega) rfl).trans nC.2.2.1.1) (by omega) (by omega) (by omega) (by omega) v hv)
    have hpo : OLD n r H' P0 σ τ σ τp := by rw [← hτp]; exact OLD.refl.wrM (by omega)
    exact hpo.trans this (Nat.le_refl _) (Nat.le_refl _) (Nat.le_refl _) (Nat.le_refl _)
  have hs22 : rd τ1 123 22 = i32 (r + 2 : Nat) := (y2.2.1 123 22 (by omega) (by omega)).trans ((hp _ _ (by omega)).trans s7)
  have y152 := y2.2.2.1.2.1
  have y153 := y2.2.2.1.2.2.1
  rw [hp 136 r (by omega)] at y152
  rw [hp 137 (r + 1) (by omega)] at y153
  have h18 : rd σ' 18 P = i32 (A2 - 1 : Nat) := by rw [hxC.1 18 P (by omega) rfl]; exact nC.2.2.1.2.2.1
  rcases hcase with ⟨k1, k2, k3, k4⟩ | ⟨k1, k3, k4⟩ | ⟨k1, k3⟩ | ⟨k1, k3, k4⟩
  · refine fin (wr τ1 157 P a) (fun j i h => by rw [rd_wr, if_neg (by omega)]) (by rw [rd_wr, if_neg (by omega), y152]; exact (hr3 (by omega)).1) (by rw [rd_wr, if_neg (by omega), y153]; exact (hr3 (by omega)).2) (fun _ _ => by rw [rd_wr, if_pos ⟨rfl, rfl⟩]; exact k4) (by omega) (by omega) (by omega) (fun dm => ?_) (by omega)
    subst k3
    have hm : i32 (mKd κ) = 8 := by
      have : ∀ x, x < 16 → 8 ≤ x → mKd x = 8 := by decide
      rw [this κ (by omega) k1]; rfl
    rw [hm] at y1
    rw [e324_0 (dm + 6), swk_of (p := 64) (by decide +kernel), e324_64 (dm + 6), bI_ok (y1 (dm + 3)), c_in (by omega) (by omega) (by omega), i32_ixn (by omega), bV_ok (mbec (x := 2) (k := 2) rfl ((wr_nek (by omega)).trans hs22) (by omega) (by omega) (dm + 4)), e324_323]
  · subst k3
    subst k1
    refine fin (wr τ1 158 P a) (fun j i h => by rw [rd_wr, if_neg (by omega)]) (by rw [rd_wr, if_neg (by omega), y152]; exact (hr3 (by omega)).1) (by rw [rd_wr, if_neg (by omega), y153]; exact (hr3 (by omega)).2) (by omega) (fun _ => by rw [rd_wr, if_pos ⟨rfl, rfl⟩]; exact k4.symm) (by omega) (by omega) (fun dm => ?_) (by omega)
    have y1 : ∀ d, rn L xs (d + 3) 325 0 [.ref 123, .int 9, jv] [] τp = some (.inl (some (.int (i32 P))), τ1) := y1
    rw [e324_0 (dm + 6), swk_of (p := 90) (by decide +kernel), e324_90 (dm + 6), bI_ok (y1 (dm + 3)), c_in (by omega) (by omega) (by omega), i32_ixn (by omega), bV_ok (mbec (x := 2) (k := 2) rfl ((wr_nek (by omega)).trans hs22) (by omega) (by omega) (dm + 4)), e324_323]
  · subst k3
    subst k1
    refine fin τ1 (fun j i h => rfl) (y152.trans (hr3 (by omega)).1) (y153.trans (hr3 (by omega)).2) (by omega) (by omega) (by omega) (by omega) (fun dm => ?_) (by omega)
    have y1 : ∀ d, rn L xs (d + 3) 325 0 [.ref 123, .int 7, jv] [] τp = some (.inl (some (.int (i32 P))), τ1) := y1
    rw [e324_0 (dm + 6), swk_of (p := 116) (by decide +kernel), e324_116 (dm + 6), bI_ok (y1 (dm + 3)), bV_ok (mbec (x := 2) (k := 2) rfl hs22 (by omega) (by omega) (dm + 4)), e324_323]
  · subst k3
    subst k1
    subst k4
    have hat : rd τ1 123 17 = i32 A2 := (y2.2.1 123 17 (by omega) (by omega)).trans ((hp _ _ (by omega)).trans s2)
    refine fin (wr (wr (wr τ1 152 P (i32 A0)) 153 P (i32 (A2 - 1 : Nat))) 158 P (i32 (A2 - 1 : Nat))) (fun j i h => by rw [rd_wr, if_neg (by omega), rd_wr, if_neg (by omega), rd_wr, if_neg (by omega)]) (by rw [rd_wr, if_neg (by omega), rd_wr, if_neg (by omega), rd_wr, if_pos ⟨rfl, rfl⟩]) (by rw [rd_wr, if_neg (by omega), rd_wr, if_pos ⟨rfl, rfl⟩]) (by omega) (by omega) (fun _ => by rw [rd_wr, if_pos ⟨rfl, rfl⟩]; exact h18.symm) (by omega) (fun dm => ?_) (by omega)
    have y1 : ∀ d, rn L xs (d + 3) 325 0 [.ref 123, .int 5, jv] [] τp = some (.inl (some (.int (i32 P))), τ1) := y1
    rw [e324_0 (dm + 6), swk_of (p := 134) (by decide +kernel), e324_134 (dm + 6), bI_ok (y1 (dm + 3)), c_in (by omega) (by omega) (by omega), c_in (by omega) (by omega) (by omega), c_in (by omega) (by omega) (by omega), i32_ixn (by omega), hat, i32_s1 (by omega), bV_ok (mbec (x := 2) (k := 2) rfl (by rw [wr_nek (by omega), wr_nek (by omega), wr_nek (by omega)]; exact hs22) (by omega) (by omega) (dm + 4)), e324_323]
end BIN
