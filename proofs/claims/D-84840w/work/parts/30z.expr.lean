/-! READING: fns, expressions -/
section EXPR
variable {L : Nat} {xs : Nat → Int32} {K1 K2 m : Nat} {μ : Nat → Nat} {g fc : Nat} {sc : List Nat} {fs fs' : List (Nat × Nat × List Nat)} {F D H n A P r r0 : Nat} {σ τ σ' τ' σ1 τ1 : tvS}
theorem addfn_run (hF : rd σ 15 26 = i32 F) (hF2 : F < 4101) (d : Nat) {x : Int32} (hx : x = rd σ 62 6) : ∃ s, rn L xs (d + 1) 69 0 [.ref 15, .int x, jv] [] σ = some (.inl (some (.int (i32 F))), s) ∧ wr s 62 6 (i32 F) = cFn σ F ∧ rd s 62 5 = rd σ 62 5 := by
  refine ⟨_, by rw [e69_0, hF, c_in (by omega) (by omega) (by omega), c_in (by omega) (by omega) (by omega), c_in (by omega) (by omega) (by omega), c_in (by omega) (by omega) (by omega), i32_ixn (by omega), i32_n1], ?_, ?_⟩
  · rw [hx]; rfl
  · rw [wr_nek (by omega), wr_nek (by omega), wr_nek (by omega), wr_nek (by omega), wr_nek (by omega)]
set_option maxHeartbeats 4000000 in
theorem fn_ok {B d : Nat} {τs : tvS} (hE : NT L xs K1 K2 m μ g fc 1 119 0 0 [jv] B) (h : ST K1 K2 m μ g fc sc fs D H n A P r σ τ) (hμ : μ A = 5) (hB : m - A ≤ B) (hn : n ≤ 8 * A + 1) (hd : 12 * (40 - D) + 20 + 10 ≤ d) (hs : ∀ τe, (∀ dm, rn L xs (dm + 7) 311 92 [.ref 123, .int (i32 A), jv] [] τ = some (.inl none, τe)) → mS L xs τs τe) :
    OUTI L xs K1 K2 τs (rn L xs d 120 0 [.ref 62, jv, jv, jv, jv, jv, jv, jv] [] σ) (NTQ K1 K2 m μ g fc sc fs D H n r A P σ τ) := by
  obtain ⟨d, rfl⟩ : ∃ d', d = d' + 5 := ⟨d - 5, by omega⟩
  obtain ⟨o1, o2, o3, o4, ⟨o5, o5'⟩, o6, ⟨s1, s2, s3, s4, s5, s6, s7, s8, s9, s10, s11, s12⟩, o8, o9, o10⟩ := h.all
  have hlt := h.lt (by omega)
  have hws := wch_succ μ A
  have hu : uch (μ A) = 1 := by rw [hμ]; rfl
  have h1 := h.at1 hlt
  have hold1 : OLD n r H P σ τ (wr σ 62 3 (i32 (A + 1 : Nat))) (wr τ 123 17 (i32 (A + 1 : Nat))) := (OLD.refl.wrC (Or.inl rfl)).wrM (by omega)
  rw [e120_0 (d + 4), s1, i32_n1]
  have x5 : rd (wr σ 62 3 (i32 (A + 1 : Nat))) 62 5 = rd σ 62 5 := by rw [rd_wr, if_neg (by omega)]
  have x6 : rd (wr σ 62 3 (i32 (A + 1 : Nat))) 62 6 = rd σ 62 6 := by rw [rd_wr, if_neg (by omega)]
  have hms : ∀ τe, (∀ dm, bI (rn L xs (dm + 6) 306 0 [.ref 123, jv, jv] [] (wr τ 123 17 (i32 (A + 1 : Nat)))) (fun a2 s1 => cond (pv_c1 .ne (rd s1 123 5)) (some (.inl none, s1)) (bI (rn L xs (dm + 6) 303 0 [.ref 123, .int 20] [] s1) (fun a4 s3 => cond (pv_c1 .eq a4) (some (.inl none, s3)) (bV (rn L xs (dm + 6) 307 0 [.ref 123, .int a2] [] s3) (fun s5 => bV (rn L xs (dm + 6) 309 0 [.ref 123, .int 24, .int (i32 A), .int a2] [] s5) (fun s6 => bV (rn L xs (dm + 6) 309 0 [.ref 123, .int 1, .int 0, .int 0] [] s6) (fun s7 => some (.inl none, s7)) X0) X0) X0)) X0)) X0 = some (.inl none, τe)) → mS L xs τs τe := by
    intro τe he
    refine hs _ (fun dm => ?_)
    rw [e311_92 (dm + 6), s2, i32_n1]
    simp only [e311_357]
    exact he dm
  obtain ⟨V, g1, g2, g3, g4, g5⟩ := h1.cvarN (L := L) (xs := xs)
  have hrl12 : ∀ j i, rl (wr σ 62 3 (i32 (A + 1 : Nat))) j i = rl σ j i := fun _ _ => rfl
  have hco2 : ∀ j i, j ≠ 62 → rd (wr σ 62 3 (i32 (A + 1 : Nat))) j i = rd σ j i := fun j i hj => wr_nek hj
  have h2e : (wr σ 62 3 (i32 (A + 1 : Nat))).2 = σ.2 := rfl
  generalize wr σ 62 3 (i32 (A + 1 : Nat)) = σ2 at *
  generalize wr τ 123 17 (i32 (A + 1 : Nat)) = τ2 at *
  obtain ⟨q1', q2', q3', q4', ⟨q5, q5'⟩, q6, ⟨m1, m2, m3, m4, m5, m6, m7, m8, m9, m10, m11, m12⟩, q8, q9, q10⟩ := h1.all
  obtain ⟨F, ⟨hc, hsx, hF1⟩, hF, hO, hPF, hZ⟩ := id h1
  have hF9 : rd σ2 15 26 = i32 F := by
    obtain ⟨V', S', C, q, cp, _, _, _, _, a9, _⟩ := hc
    exact a9
  have hF0 : 3 * F ≤ A := by
    obtain ⟨F0, ⟨hc0, _, _⟩, hF00, _⟩ := id h
    obtain ⟨V0, S0, C0, q0, cp0, _, _, _, _, a90, _⟩ := hc0
    have := (i32_inj (by omega) (by omega) (by omega) (by omega)).mp (hF9.symm.trans ((hco2 15 26 (by omega)).trans a90))
    omega
  obtain ⟨sx, j1, j2, j3⟩ := addfn_run (L := L) (xs := xs) hF9 (by omega) (d + 3) x6.symm
  rw [bI_ok j1, j2, j3]
  have hadd := hc.addfn (by omega) (by omega)
  have hfo : ∀ j i, ¬ (j = 15 ∧ i = 26) → ¬ (j = 62 ∧ i = 6) → ¬ (i = F ∧ (j = 34 ∨ 37 ≤ j ∧ j ≤ 39)) → rd (cFn σ2 F) j i = rd σ2 j i := fun j i h1 h2 h3 => cFn_oth h1 h2 h3
  have hf6 : rd (cFn σ2 F) 62 6 = i32 F := cFn_at.2.2.2.2.2
  have hf34 : rd (cFn σ2 F) 34 F = rd σ2 62 6 := cFn_at.2.1
  have hf2 : (cFn σ2 F).2 = σ2.2 := rfl
  have hck : vck (cFn σ2 F) (μ (A + 1)) (A + 1) g fc sc = vck σ2 (μ (A + 1)) (A + 1) g fc sc := rfl
  generalize cFn σ2 F = σ3 at *
  obtain ⟨Vx, Sx, y0, y5, y7, y8, ym, y6, ⟨b1, b2, b3, b4, b5, b6, b7⟩, y14⟩ := hadd.scS
  have hVx : Vx = V := by
    have e := (hfo 15 19 (by omega) (by omega) (by omega)).trans g2
    have := (i32_inj (by omega) (by omega) (by omega) (by omega)).mp (y5.symm.trans e)
    omega
  subst hVx
  have hLV3 : LV m σ3 τ2 ∧ mu τ2 = μ ∧ rd τ2 123 5 = 0 ∧ roomC K1 K2 σ3 ∧ (rd σ3 15 13 = i32 P ∧ rd τ2 123 46 = i32 P) ∧ r ≤ P := hadd.lv
  obtain ⟨l1, l2, l3, l4, l5, l6⟩ := hLV3
  have e35 : rd σ3 62 5 = rd σ2 62 5 := hfo 62 5 (by omega) (by omega) (by omega)
  have hrun := cvar_run (L := L) (xs := xs) (V := Vx) l1 l2 (A := A + 1) (by omega) ((hfo 62 3 (by omega) (by omega) (by omega)).trans m1) y0.1 y0.2.2.2.1 l4.xn b4 b1 b6.1 b3 y5 (by omega) d
  rw [e35, hck] at hrun
  by_cases q : vck σ2 (μ (A + 1)) (A + 1) g fc sc = 0
  · rw [bI_ok (hrun.trans (if_pos q))]
    obtain ⟨v1, v2, v3⟩ := vck_0 q
    have hltA : A + 1 < m := h1.lt (by omega)
    have hnew := hadd.newv (x := rd σ2 62 5) (k := sc.length) (by omega) hltA v1 y5 (by omega)
    have h306 := fun dm => (g4 (dm + 4)).trans (if_pos q)
    obtain ⟨z1, z2, z3, z4, z5, z6⟩ := cVar_at (σ := σ3) (A := A + 1) (V := Vx) (x := rd σ2 62 5) (k := sc.length)
    obtain ⟨t1, t2, t3, t4⟩ := mVar_at (τ := τ2) (A := A + 1) (V := Vx)
    have hvo : ∀ j i, ¬ (j = 62 ∧ i = 3) → ¬ (j = 15 ∧ i = 19) → ¬ (30 ≤ j ∧ j ≤ 33 ∧ i = Vx) → rd (cVar σ3 (A + 1) Vx (rd σ2 62 5) sc.length) j i = rd σ3 j i := fun j i h1 h2 h3 => cVar_oth h1 h2 h3
    have hmo : ∀ j i, ¬ (j = 123 ∧ (i = 36 ∨ i = 17)) → ¬ (145 ≤ j ∧ j ≤ 146 ∧ i = Vx) → rd (mVar τ2 (A + 1) Vx) j i = rd τ2 j i := fun j i h1 h2 => mVar_oth h1 h2
    have hrlo : ∀ j i, ¬ (j = 29 ∧ i = Vx) → rl (cVar σ3 (A + 1) Vx (rd σ2 62 5) sc.length) j i = rl σ3 j i := fun j i h1 => by rw [cVar_rl, if_neg h1]
    have hrlV : rl (cVar σ3 (A + 1) Vx (rd σ2 62 5) sc.length) 29 Vx = rl σ3 12 (A + 1) := by rw [cVar_rl, if_pos ⟨rfl, rfl⟩]
    have h22 : (cVar σ3 (A + 1) Vx (rd σ2 62 5) sc.length).2.2 = σ3.2.2 := rfl
    generalize cVar σ3 (A + 1) Vx (rd σ2 62 5) sc.length = σ4 at *
    generalize mVar τ2 (A + 1) Vx = τ4 at *
    obtain ⟨f1, f2, f3, f4, f5, f6⟩ := hnew.lv
    have hmsg := rmust_ok (L := L) (xs := xs) (μ := 20) f1 (A := A + 1 + 1) (by omega) z5 (by omega) (by omega) f4.xn d
    rw [f2] at hmsg
    have hmsg : rn L xs (d + 4) 112 0 [.ref 62, .int 256] [] σ4 = _ := hmsg
    have htk := fun d => mtake_ok (L := L) (xs := xs) (μ := 20) f1 (A := A + 1 + 1) (by omega) t4 (by omega) f3 d
    rw [f2] at htk
    by_cases q2 : μ (A + 1 + 1) = 20
    · rw [if_pos q2] at hmsg
      rw [bV_ok hmsg]
      have hlt2 : A + 1 + 1 < m := by
        apply Classical.byContradiction
        intro hq
        have h36 := f1.2.2.1
        rw [f2, show m = A + 1 + 1 by omega, q2] at h36
        omega
      have hag := hnew.ag (by omega) (agC.refl.wr (j := 62) (i := 3) (x := i32 (A + 1 + 1 + 1 : Nat)) rfl) (agM.refl.wr (j := 123) (i := 17) (x := i32 (A + 1 + 1 + 1 : Nat)) rfl) (Nat.le_refl _)
      have hvs : Vx ∉ sc := fun hq => by have := y0.2.2.2.2.2.1 Vx hq; omega
      obtain ⟨S, k1, k2, k4, k3⟩ := hag.opn (L := L) (xs := xs) (v := Vx) (V := Vx + 1) (A' := A + 1 + 1 + 1) (by omega) (Nat.le_refl _) (by omega) ((wr_nek (by omega)).trans z6) (by omega) (Nat.lt_succ_self _) (by rw [wr_nek (by omega), rd_wr, if_neg (by omega), z3, hvo 62 5 (by omega) (by omega) (by omega), e35]) ((wr_nek (by omega)).trans z4) (by have := y0.2.2.2.1; omega) (fun u hu => by
          have hne : u ≠ Vx := fun e => hvs (by rw [← e]; exact hu)
          show rl σ4 29 u ≠ rl σ4 29 Vx
          rw [hrlV, hrlo 29 u (by omega)]
          have e1 : rl σ3 29 u = rl σ2 29 u := by unfold rl; rw [hf2]
          have e2 : rl σ3 12 (A + 1) = rl σ2 12 (A + 1) := by unfold rl; rw [hf2]
          rw [e1, e2]
          exact v2 u hu) (by
          rw [wr_nek (by omega), z2, hf6]
          show _ = if Vx ∈ sc then _ else i32 F
          rw [if_neg hvs])
      have hmS : mS L xs τs (mPush (mPush (mOpen (wr τ4 123 17 (i32 (A + 1 + 1 + 1 : Nat))) Vx sc.length S) n 24 (i32 A) (i32 Vx)) (n + 1) 1 0 0) := by
        refine hms _ (fun dm => ?_)
        have ht := htk (dm + 4)
        rw [if_pos q2] at ht
        have ht : rn L xs (dm + 6) 303 0 [.ref 123, .int 20] [] τ4 = _ := ht
        have h18 : rd (mOpen (wr τ4 123 17 (i32 (A + 1 + 1 + 1 : Nat))) Vx sc.length S) 123 18 = i32 n := by rw [mOpen_oth (by omega) (by omega), rd_wr, if_neg (by omega), hmo 123 18 (by omega) (by omega)]; exact m6
        rw [bI_ok (h306 dm), f3, show pv_c1 .ne (0 : Int32) = false from rfl, cond_false, bI_ok ht, show pv_c1 .eq (1 : Int32) = false from rfl, cond_false, bV_ok (k2 (dm + 5)), bV_ok (mpush_ok (n := n) h18 (by omega) (dm + 5) _ _ _), bV_ok (mpush_ok (n := n + 1) mPush_come (by omega) (dm + 5) _ _ _)]
      refine OUTI.pre hmS ?_
      -- the state where the fn's part begins
      have w3 := wch_mono μ (show A + 1 ≤ A + 1 + 1 + 1 by omega)
      have g5' : rd (wr (wr σ4 62 3 (i32 (A + 1 + 1 + 1 : Nat))) 62 5 (i32 Vx)) 62 5 = i32 Vx := wr_self _ _ _ _
      have gj : ∀ j i, j ≠ 62 → rd (wr (wr σ4 62 3 (i32 (A + 1 + 1 + 1 : Nat))) 62 5 (i32 Vx)) j i = rd σ4 j i := fun j i hj => by rw [wr_nek hj, wr_nek hj]
      have g62 : ∀ i, i ≠ 3 → i ≠ 5 → rd (wr (wr σ4 62 3 (i32 (A + 1 + 1 + 1 : Nat))) 62 5 (i32 Vx)) 62 i = rd σ4 62 i := fun i h1 h2 => by rw [rd_wr, if_neg (by omega), rd_wr, if_neg (by omega)]
      have g623 : rd (wr (wr σ4 62 3 (i32 (A + 1 + 1 + 1 : Nat))) 62 5 (i32 Vx)) 62 3 = i32 (A + 1 + 1 + 1 : Nat) := by rw [rd_wr, if_neg (by omega), wr_self]
      have gm : ∀ i, i ≠ 17 → i ≠ 40 → i ≠ 42 → i ≠ 43 → i ≠ 36 → rd (mOpen (wr τ4 123 17 (i32 (A + 1 + 1 + 1 : Nat))) Vx sc.length S) 123 i = rd τ2 123 i := fun i h1 h2 h3 h4 h5 => by rw [mOpen_oth (by omega) (by omega), rd_wr, if_neg (by omega)]; exact hmo 123 i (by omega) (by omega)
      have gm17 : rd (mOpen (wr τ4 123 17 (i32 (A + 1 + 1 + 1 : Nat))) Vx sc.length S) 123 17 = i32 (A + 1 + 1 + 1 : Nat) := by rw [mOpen_oth (by omega) (by omega), wr_self]
      have h7 : ST K1 K2 m μ g fc (Vx :: sc) ((F, P, sc) :: fs) D H n (A + 1 + 1 + 1) P r (wr (wr σ4 62 3 (i32 (A + 1 + 1 + 1 : Nat))) 62 5 (i32 Vx)) (mOpen (wr τ4 123 17 (i32 (A + 1 + 1 + 1 : Nat))) Vx sc.length S) := by
        refine ⟨F + 1, ⟨k3, ⟨g623, gm17, ?_, ?_, ?_, ?_, ?_, hlt2, m9, by omega, by omega, by omega⟩, by omega⟩, by omega, ?_, fun f hf => ?_, SLO.opn (hZ.con (by rw [rd_wr, if_neg (by omega), t3, y6, i32_ixn (by omega), i32_ixn (by omega)]; omega) (fun i hi => by rw [rd_wr, if_neg (by omega)]; exact hmo 123 i (by omega) (by omega)) (fun j hj i => by rw [wr_nek (by omega)]; exact hmo j i (by omega) (by omega))) k4 (by omega) (by rw [show V0f (wr τ4 123 17 (i32 (A + 1 + 1 + 1 : Nat))) = V0f τ2 from by unfold V0f; rw [rdne (by omega), rdne (by omega), hmo 123 28 (by omega) (by omega), hmo 144 _ (by omega) (by omega)], hc.v0]; exact h1.v0 g2 (by omega)) (by omega) (by rw [rd_wr, if_neg (by omega), t3, i32_ixn (by omega)]; omega)⟩
        · rw [g62 4 (by omega) (by omega), hvo 62 4 (by omega) (by omega) (by omega), hfo 62 4 (by omega) (by omega) (by omega)]; exact m3
        · rw [gm 26 (by omega) (by omega) (by omega) (by omega) (by omega)]; exact m4
        · rw [g62 11 (by omega) (by omega), hvo 62 11 (by omega) (by omega) (by omega), hfo 62 11 (by omega) (by omega) (by omega)]; exact m5
        · rw [gm 18 (by omega) (by omega) (by omega) (by omega) (by omega)]; exact m6
        · rw [gm 22 (by omega) (by omega) (by omega) (by omega) (by omega)]; exact m7
        · show _ = rd (wr (wr σ4 62 3 (i32 (A + 1 + 1 + 1 : Nat))) 62 5 (i32 Vx)) 31 Vx
          rw [g62 6 (by omega) (by omega), gj 31 Vx (by omega), z2, hvo 62 6 (by omega) (by omega) (by omega)]
        · obtain ⟨a, b1, b2⟩ := hPF f hf
          exact ⟨a, by rw [gj 46 f (by omega), hvo 46 f (by omega) (by omega) (by omega), hfo 46 f (by omega) (by omega) (by omega)]; exact b1, b2⟩
      have hold27 : OLDe [Vx] n r H P σ2 τ2 (wr (wr σ4 62 3 (i32 (A + 1 + 1 + 1 : Nat))) 62 5 (i32 Vx)) (mOpen (wr τ4 123 17 (i32 (A + 1 + 1 + 1 : Nat))) Vx sc.length S) := by
        have hx19 : ix (rd σ2 15 19) = Vx := by rw [g2, i32_ixn (by omega)]
        have hgp : ∀ j i, j = 16 ∨ j = 27 ∨ j = 28 ∨ j = 24 → rd (wr (wr σ4 62 3 (i32 (A + 1 + 1 + 1 : Nat))) 62 5 (i32 Vx)) j i = rd σ2 j i := fun j i hj => by rw [gj j i (by omega), hvo j i (by omega) (by omega) (by omega)]; exact hfo j i (by omega) (by omega) (by omega)
        have hg13 : rd (wr (wr σ4 62 3 (i32 (A + 1 + 1 + 1 : Nat))) 62 5 (i32 Vx)) 15 13 = rd σ2 15 13 := by rw [gj 15 13 (by omega), hvo 15 13 (by omega) (by omega) (by omega)]; exact hfo 15 13 (by omega) (by omega) (by omega)
        have hx19' : ix (rd (wr (wr σ4 62 3 (i32 (A + 1 + 1 + 1 : Nat))) 62 5 (i32 Vx)) 15 19) = Vx + 1 := by rw [gj 15 19 (by omega), z6, i32_ixn (by omega)]
        refine ⟨fun i hi j h1 h2 => ?_, fun i hi j h1 h2 => ?_, fun i hi => ?_, fun p hp j h1 h2 => ?_, fun v hv => ⟨?_, ?_, ?_, ?_⟩, by omega, fun j hj i => ?_, ?_, ⟨by rw [hg13]; exact Nat.le_refl _, fun p _ => ⟨hgp 16 p (by omega), hgp 27 p (by omega), hgp 28 p (by omega)⟩⟩, ⟨by omega, fun v h1 h2 => Or.inl (by rw [show v = Vx by omega]; exact List.mem_cons_self)⟩, fun v hv => by rw [List.mem_singleton.mp hv]; omega, fun p v h1 h2 => by rw [hg13] at h2; omega, fun p p' v h1 h2 => by rw [hg13] at h2; omega⟩
        · rw [mOpen_oth (by omega) (by omega), wr_nek (by omega)]; exact hmo j i (by omega) (by omega)
        · rw [mOpen_oth (by omega) (by omega), wr_nek (by omega)]; exact hmo j i (by omega) (by omega)
        · rw [gj 63 i (by omega), hvo 63 i (by omega) (by omega) (by omega)]; exact hfo 63 i (by omega) (by omega) (by omega)
        · rw [gj j p (by omega), hvo j p (by omega) (by omega) (by omega)]; exact hfo j p (by omega) (by omega) (by omega)
        · show rl σ4 29 v = _
          rw [hrlo 29 v (by omega)]; unfold rl; rw [hf2]
        · rw [gj 31 v (by omega), hvo 31 v (by omega) (by omega) (by omega)]; exact hfo 31 v (by omega) (by omega) (by omega)
        · rw [gj 32 v (by omega), hvo 32 v (by omega) (by omega) (by omega)]; exact hfo 32 v (by omega) (by omega) (by omega)
        · rw [gj 33 v (by omega), hvo 33 v (by omega) (by omega) (by omega)]; exact hfo 33 v (by omega) (by omega) (by omega)
        · show rl σ4 j i = _
          rw [hrlo j i (by omega)]; unfold rl; rw [hf2]
        · refine ⟨fun j h1 h2 i => ?_, fun p hp j h1 h2 => ?_, fun j hj i => ?_, fun p hp => ?_, fun s hs => ?_, ?_⟩
          · rw [gj j i (by omega), hvo j i (by omega) (by omega) (by omega)]; exact hfo j i (by omega) (by omega) (by omega)
          · rw [gj j p (by omega), hvo j p (by omega) (by omega) (by omega)]; exact hfo j p (by omega) (by omega) (by omega)
          · rw [mOpen_oth (by omega) (by omega), wr_nek (by omega)]; exact hmo j i (by omega) (by omega)
          · rw [mOpen_oth (by omega) (by omega), wr_nek (by omega)]; exact hmo 160 p (by omega) (by omega)
          · have e42 : rd τ2 123 42 = i32 S := (hmo 123 42 (by omega) (by omega)).symm.trans ((wr_nei (by omega)).symm.trans k4)
            rw [e42, i32_ixn (by omega)] at hs
            have har := mOpen_ar (τ := wr τ4 123 17 (i32 (A + 1 + 1 + 1 : Nat))) (v := Vx) (len := sc.length) (S := S) s
            exact ⟨by rw [har.2.2.1, if_neg (by omega), wr_nek (by omega)]; exact hmo 149 s (by omega) (by omega), by rw [har.2.2.2, if_neg (by omega), wr_nek (by omega)]; exact hmo 150 s (by omega) (by omega)⟩
          · have e42 : rd τ2 123 42 = i32 S := (hmo 123 42 (by omega) (by omega)).symm.trans ((wr_nei (by omega)).symm.trans k4)
            rw [mOpen_123.2.1, e42, i32_ixn (by omega), i32_ixn (by omega)]; omega
      have nv7 : NV Vx sc (rd σ2 62 5) (i32 F) (wr (wr σ4 62 3 (i32 (A + 1 + 1 + 1 : Nat))) 62 5 (i32 Vx)) := by
        refine ⟨by rw [gj 15 19 (by omega), z6, i32_ixn (by omega)]; omega, by rw [gj 32 Vx (by omega)]; exact z3, by rw [gj 33 Vx (by omega)]; exact z4, by rw [gj 31 Vx (by omega), z2, hf6], by have := y0.2.2.2.1; omega, fun u hu => ?_, fun u hu => by rw [gj 15 19 (by omega), z6, i32_ixn (by omega)]; have := y0.2.2.2.2.2.1 u hu; omega⟩
        have hne : u ≠ Vx := fun e => hvs (by rw [← e]; exact hu)
        show rl σ4 29 u ≠ rl σ4 29 Vx
        rw [hrlV, hrlo 29 u (by omega)]
        have e1 : rl σ3 29 u = rl σ2 29 u := by unfold rl; rw [hf2]
        have e2 : rl σ3 12 (A + 1) = rl σ2 12 (A + 1) := by unfold rl; rw [hf2]
        rw [e1, e2]
        exact v2 u hu
      have h8 := (h7.push (by omega) 24 (i32 A) (i32 Vx)).push (by omega) 1 0 0
      have hold8 : OLDe [Vx] n r H P σ2 τ2 (wr (wr σ4 62 3 (i32 (A + 1 + 1 + 1 : Nat))) 62 5 (i32 Vx)) (mPush (mPush (mOpen (wr τ4 123 17 (i32 (A + 1 + 1 + 1 : Nat))) Vx sc.length S) n 24 (i32 A) (i32 Vx)) (n + 1) 1 0 0) := OLDe.trans (E' := []) hold27 ((OLD.refl.push (Nat.le_refl _)).push (by omega)) (Nat.le_refl _) (Nat.le_refl _) (Nat.le_refl _) (Nat.le_refl _)
      have i2 : IT (mPush (mPush (mOpen (wr τ4 123 17 (i32 (A + 1 + 1 + 1 : Nat))) Vx sc.length S) n 24 (i32 A) (i32 Vx)) (n + 1) 1 0 0) (n + 1) 1 0 0 := IT.at rfl
      have i1 : IT (mPush (mPush (mOpen (wr τ4 123 17 (i32 (A + 1 + 1 + 1 : Nat))) Vx sc.length S) n 24 (i32 A) (i32 Vx)) (n + 1) 1 0 0) n 24 (i32 A) (i32 Vx) := (IT.at rfl).push (by omega)
      generalize mPush (mPush (mOpen (wr τ4 123 17 (i32 (A + 1 + 1 + 1 : Nat))) Vx sc.length S) n 24 (i32 A) (i32 Vx)) (n + 1) 1 0 0 = τ8 at h8 hold8 i1 i2
      generalize wr (wr σ4 62 3 (i32 (A + 1 + 1 + 1 : Nat))) 62 5 (i32 Vx) = σ8 at h8 hold8 nv7 g5'
      refine OUTI.bI (hE (Vx :: sc) ((F, P, sc) :: fs) D H (n + 1) (A + 1 + 1 + 1) P r σ8 τ8 (d + 4) h8 i2.1 (by omega) (by omega) (by omega)) (fun a σ9 τ9 hQ => ?_)
      obtain ⟨A1, P1, y1, y2, ⟨a1, a2, a3, a4, a5, a6, a7, a8⟩, y4, y5', y6'⟩ := hQ
      subst y1
      have nv9 := nv7.old y6'
      have hold9 : OLD (n + 1) r H P σ8 τ8 σ9 τ9 := y6'
      obtain ⟨p1, p2, p3, p4, ⟨p5, p5'⟩, p6, ⟨r1, r2, r3, r4, r5, r6, r7, r8, r9, r10, r11, r12⟩, p8, p9, p10⟩ := y2.all
      obtain ⟨c1, c2, c3, c4, c5, c6⟩ := a8
      have e59 : rd σ9 62 5 = i32 Vx := (h8.s5 y2).trans g5'
      have hpop := y2.pop
      obtain ⟨F9, ⟨hc9, hs9, hF91⟩, hF9', hO9, hPF9, hZ9⟩ := id hpop
      have hchV := y2.ch
      rw [e59] at hchV
      have hchS : chC σ9 sc (rd σ 62 5) := by
        have hh := hchV.2.2.2
        rw [nv9.2.1, x5] at hh
        exact hh
      have hsuf9 : sufF sc ((F, P, sc) :: fs) := ⟨⟨[], rfl⟩, h.suf⟩
      obtain ⟨s, w1, w2, w3', w4, w6, w7, w5⟩ := hc9.close (x := rd σ 62 5) (by omega) r8 hsuf9 hchS
      -- the component makes the part
      obtain ⟨σ10, nC, hrunC⟩ := pad1 (L := L) (xs := xs) (σ := σ9) (κ := 17) (x := 17) (P := P1) (c1 := P1 - 1) (s1 := P) (f := i32 A) (l := i32 (A1 - 1 : Nat)) (s := rd σ 62 5) (r1 := 0) rfl p5 (by omega) (by omega) c2 c1 rfl (d + 1)
      rw [a4]
      have e := hrunC (fun a9 s10 => cond (pv_in a9 4101) (cond (pv_in (i32 (F : Int)) 4101) (cond (pv_in (i32 (F : Int)) 4101) (some (.inl (some (.int a9)), wr (wr (wr (wr (wr (wr s10 27 (ix a9) (i32 F)) 35 (ix (i32 (F : Int))) a9) 36 (ix (i32 (F : Int))) (i32 Vx)) 62 5 (rd σ 62 5)) 62 6 (rd σ 62 6)) 62 8 (i32 A))) none) none) none)
      refine e.symm ▸ ?_
      rw [c_in (by omega) (by omega) (by omega), c_in (by omega) (by omega) (by omega), c_in (by omega) (by omega) (by omega), i32_ixn (by omega), i32_ixn (by omega)]
      -- the model makes the part
      have q7 : ∀ j i, ¬ (j = 123 ∧ (i = 18 ∨ i = 40 ∨ i = 43)) → rd (wr (wr (wr τ9 123 18 (i32 n)) 123 40 (i32 sc.length)) 123 43 (rd (wr τ9 123 18 (i32 n)) 150 s)) j i = rd τ9 j i := fun j i hj => by rw [rd_wr, if_neg (by omega), rd_wr, if_neg (by omega), rd_wr, if_neg (by omega)]
      have q18 : rd (wr (wr (wr τ9 123 18 (i32 n)) 123 40 (i32 sc.length)) 123 43 (rd (wr τ9 123 18 (i32 n)) 150 s)) 123 18 = i32 n := by rw [rd_wr, if_neg (by omega), rd_wr, if_neg (by omega), wr_self]
      have hclose : ∀ dm, rn L xs (dm + 6) 328 0 [.ref 123, .int 1, jv] [] (wr τ9 123 18 (i32 n)) = some (.inl none, wr (wr (wr τ9 123 18 (i32 n)) 123 40 (i32 sc.length)) 123 43 (rd (wr τ9 123 18 (i32 n)) 150 s)) := fun dm => by
        rw [e328_0 (dm + 5), show (0 : Int32) = i32 ((0 : Nat) : Int) from rfl, close_step (x1 := 1) (w := 1) w1 w2 w3' rfl (by omega) (by omega) (dm + 5)]
        exact close_end (x1 := 1) (w := 1) rfl (by omega) (dm + 5)
      have hZ10 : SLO (wr (wr (wr τ9 123 18 (i32 n)) 123 40 (i32 sc.length)) 123 43 (rd (wr τ9 123 18 (i32 n)) 150 s)) := hZ9.close w1 w6 w7
      generalize wr (wr (wr τ9 123 18 (i32 n)) 123 40 (i32 sc.length)) 123 43 (rd (wr τ9 123 18 (i32 n)) 150 s) = τ10 at w5 q7 q18 hclose hZ10
      obtain ⟨τ11, f1, f2, f3, f4, f5, f6⟩ := mone (L := L) (xs := xs) (τ := τ10) (r := r) (P := P1) (c1 := P1 - 1) (s1 := P) ((q7 _ _ (by omega)).trans r7) (by omega) ((q7 _ _ (by omega)).trans p5') (by omega) ((q7 _ _ (by omega)).trans a5) (by omega) ((q7 _ _ (by omega)).trans (y2.s161 (by omega) c2)) c1 10 (i32 A) (i32 Vx)
      have hmS9 : mS L xs τ9 (mBec τ11 r P1) := by
        refine nx r6 (by omega) p3 (IT.old hold9 (by omega) i1) (pc := 355) (by decide +kernel) (fun dm => ?_)
        rw [e310_355 (dm + 7), bV_ok (r := rn L xs (dm + 7) 324 0 _ _ _) (σ := mBec τ11 r P1), e310_362]
        have hs22 : rd τ11 123 22 = i32 (r + 1 : Nat) := (f1.2.1 123 22 (by omega) (by omega)).trans ((q7 _ _ (by omega)).trans r7)
        rw [e324_0 (dm + 6), swk_of (p := 248) (by decide +kernel), e324_248 (dm + 6), bV_ok (hclose dm), f6 (dm + 4) (fun a3 s6 => bV (rn L xs (dm + 6) 327 0 [.ref 123, .int a3, .int 1] [] s6) (fun s7 => rn L xs (dm + 6 + 1) 324 323 [.ref 123, (dj (dj (dj (dj (dj (.int (i32 (24 : Nat)))))))), .int (i32 A), .int (i32 Vx), .int a3] [] s7) X0), bV_ok (mbec (x := 1) (k := 1) rfl hs22 (by omega) (by omega) (dm + 4)), e324_323]
      refine OUTI.pre hmS9 ?_
      rw [q7 137 r (by omega), a7] at f1
      obtain ⟨b1', b2', b3', b4'⟩ := mBec_at (τ := τ11) (r := r) (P := P1)
      have hb : ∀ j i, ¬ (135 ≤ j ∧ j ≤ 137 ∧ i = r) → ¬ (j = 123 ∧ i = 22) → rd (mBec τ11 r P1) j i = rd τ11 j i := fun j i h1 h2 => mBec_oth h1 h2
      have hMn : ∀ j i, ¬ (i = P1 ∧ 151 ≤ j ∧ j ≤ 163) → ¬ (i = P1 - 1 ∧ j = 159) → ¬ (j = 123 ∧ (i = 46 ∨ i = 22)) → ¬ (135 ≤ j ∧ j ≤ 137 ∧ i = r) → rd (mBec τ11 r P1) j i = rd τ10 j i := fun j i h1 h2 h3 h4 => by
        rw [hb j i h4 (by omega)]
        by_cases hj : 151 ≤ j ∧ j ≤ 163
        · exact f1.1 j i (by omega) (fun q => h2 ⟨List.mem_singleton.mp q.1, q.2⟩) (by omega)
        · exact f1.2.1 j i hj (by omega)
      obtain ⟨d1, d2, d3, d5, d6, d7, d8, d9⟩ := f1.2.2.1
      have m152 := (hb 152 P1 (by omega) (by omega)).trans d2
      have m153 := (hb 153 P1 (by omega) (by omega)).trans d3
      have m151 := (hb 151 P1 (by omega) (by omega)).trans d1
      have m154 := (hb 154 P1 (by omega) (by omega)).trans f2
      have m155 := (hb 155 P1 (by omega) (by omega)).trans f3
      have m156 := (hb 156 P1 (by omega) (by omega)).trans f4
      have m157 := (hb 157 P1 (by omega) (by omega)).trans f5
      have m158 := (hb 158 P1 (by omega) (by omega)).trans d5
      have m159 := (hb 159 P1 (by omega) (by omega)).trans d6
      have m160 := (hb 160 P1 (by omega) (by omega)).trans d7
      have m161 := (hb 161 P1 (by omega) (by omega)).trans d8
      have m159c : rd (mBec τ11 r P1) 159 (P1 - 1) = i32 P1 := (hb 159 (P1 - 1) (by omega) (by omega)).trans (f1.2.2.2.1 0 (P1 - 1) rfl)
      have m46 : rd (mBec τ11 r P1) 123 46 = i32 (P1 + 1 : Nat) := (hb 123 46 (by omega) (by omega)).trans f1.2.2.2.2.1
      generalize mBec τ11 r P1 = τ12 at b1' b2' b3' b4' hMn m152 m153 m151 m154 m155 m156 m157 m158 m159 m160 m161 m159c m46
      -- the component's state
      have u8 : rd (wr (wr (wr (wr (wr (wr σ10 27 P1 (i32 F)) 35 F (i32 P1)) 36 F (i32 Vx)) 62 5 (rd σ 62 5)) 62 6 (rd σ 62 6)) 62 8 (i32 A)) 62 8 = i32 A := wr_self _ _ _ _
      have u6 : rd (wr (wr (wr (wr (wr (wr σ10 27 P1 (i32 F)) 35 F (i32 P1)) 36 F (i32 Vx)) 62 5 (rd σ 62 5)) 62 6 (rd σ 62 6)) 62 8 (i32 A)) 62 6 = rd σ 62 6 := by rw [rd_wr, if_neg (by omega), wr_self]
      have u5 : rd (wr (wr (wr (wr (wr (wr σ10 27 P1 (i32 F)) 35 F (i32 P1)) 36 F (i32 Vx)) 62 5 (rd σ 62 5)) 62 6 (rd σ 62 6)) 62 8 (i32 A)) 62 5 = rd σ 62 5 := by rw [rd_wr, if_neg (by omega), rd_wr, if_neg (by omega), wr_self]
      have u62 : ∀ i, i ≠ 5 → i ≠ 6 → i ≠ 8 → rd (wr (wr (wr (wr (wr (wr σ10 27 P1 (i32 F)) 35 F (i32 P1)) 36 F (i32 Vx)) 62 5 (rd σ 62 5)) 62 6 (rd σ 62 6)) 62 8 (i32 A)) 62 i = rd σ9 62 i := fun i h1 h2 h3 => by
        rw [rd_wr, if_neg (by omega), rd_wr, if_neg (by omega), rd_wr, if_neg (by omega), wr_nek (by omega), wr_nek (by omega), wr_nek (by omega)]; exact nC.2.1 62 i rfl (by omega)
      have u27 : rd (wr (wr (wr (wr (wr (wr σ10 27 P1 (i32 F)) 35 F (i32 P1)) 36 F (i32 Vx)) 62 5 (rd σ 62 5)) 62 6 (rd σ 62 6)) 62 8 (i32 A)) 27 P1 = i32 F := by rw [wr_nek (by omega), wr_nek (by omega), wr_nek (by omega), wr_nek (by omega), wr_nek (by omega), wr_self]
      have u35 : rd (wr (wr (wr (wr (wr (wr σ10 27 P1 (i32 F)) 35 F (i32 P1)) 36 F (i32 Vx)) 62 5 (rd σ 62 5)) 62 6 (rd σ 62 6)) 62 8 (i32 A)) 35 F = i32 P1 := by rw [wr_nek (by omega), wr_nek (by omega), wr_nek (by omega), wr_nek (by omega), wr_self]
      have u36 : rd (wr (wr (wr (wr (wr (wr σ10 27 P1 (i32 F)) 35 F (i32 P1)) 36 F (i32 Vx)) 62 5 (rd σ 62 5)) 62 6 (rd σ 62 6)) 62 8 (i32 A)) 36 F = i32 Vx := by rw [wr_nek (by omega), wr_nek (by omega), wr_nek (by omega), wr_self]
      have uP : ∀ j, j ≠ 27 → j ≠ 35 → j ≠ 36 → j ≠ 62 → ∀ i, rd (wr (wr (wr (wr (wr (wr σ10 27 P1 (i32 F)) 35 F (i32 P1)) 36 F (i32 Vx)) 62 5 (rd σ 62 5)) 62 6 (rd σ 62 6)) 62 8 (i32 A)) j i = rd σ10 j i := fun j h1 h2 h3 h4 i => by rw [wr_nek h4, wr_nek h4, wr_nek h4, wr_nek h3, wr_nek h2, wr_nek h1]
      have uC : ∀ j i, ¬ (i = P1 ∧ 16 ≤ j ∧ j ≤ 28) → ¬ (i = P1 - 1 ∧ 24 ≤ j ∧ j ≤ 25) → ¬ (j = 15 ∧ i = 13) → ¬ (i = F ∧ (j = 35 ∨ j = 36)) → ¬ (j = 62 ∧ (i = 5 ∨ i = 6 ∨ i = 8)) → rd (wr (wr (wr (wr (wr (wr σ10 27 P1 (i32 F)) 35 F (i32 P1)) 36 F (i32 Vx)) 62 5 (rd σ 62 5)) 62 6 (rd σ 62 6)) 62 8 (i32 A)) j i = rd σ9 j i := fun j i h1 h2 h3 h4 h5 => by
        rw [rd_wr, if_neg (by omega), rd_wr, if_neg (by omega), rd_wr, if_neg (by omega), rd_wr, if_neg (by omega), rd_wr, if_neg (by omega), rd_wr, if_neg (by omega)]
        by_cases hj : 16 ≤ j ∧ j < 29
        · exact nC.1 j i (by omega) (fun q => by have := List.mem_singleton.mp q.1; omega) (by omega)
        · exact nC.2.1 j i (rgN_no hj) (by omega)
      have ul : (wr (wr (wr (wr (wr (wr σ10 27 P1 (i32 F)) 35 F (i32 P1)) 36 F (i32 Vx)) 62 5 (rd σ 62 5)) 62 6 (rd σ 62 6)) 62 8 (i32 A)).2 = σ9.2 := nC.2.2.2.2.2.2
      generalize wr (wr (wr (wr (wr (wr σ10 27 P1 (i32 F)) 35 F (i32 P1)) 36 F (i32 Vx)) 62 5 (rd σ 62 5)) 62 6 (rd σ 62 6)) 62 8 (i32 A) = σ12 at u8 u6 u5 u62 u27 u35 u36 uP uC ul
      obtain ⟨k1', k2', k3', k4', k5', k6', k7', k8', k9', k10'⟩ := nC.2.2.1
      have n16' := (uP 16 (by omega) (by omega) (by omega) (by omega) P1).trans k1'
      have n17' := (uP 17 (by omega) (by omega) (by omega) (by omega) P1).trans k2'
      have n18' := (uP 18 (by omega) (by omega) (by omega) (by omega) P1).trans k3'
      have n23' := (uP 23 (by omega) (by omega) (by omega) (by omega) P1).trans k5'
      have n24' := (uP 24 (by omega) (by omega) (by omega) (by omega) P1).trans k6'
      have n25' := (uP 25 (by omega) (by omega) (by omega) (by omega) P1).trans k7'
      have n26' := (uP 26 (by omega) (by omega) (by omega) (by omega) P1).trans k8'
      have n28' := (uP 28 (by omega) (by omega) (by omega) (by omega) P1).trans k10'
      have nkid : ∀ w, w < 3 → rd σ12 (20 + w) P1 = kid [P1 - 1] w := fun w hw => (uP (20 + w) (by omega) (by omega) (by omega) (by omega) P1).trans (nC.2.2.2.1 w hw)
      have hFF : F < F9 := by
        obtain ⟨V', S', C, q', cp, _, _, _, _, _, _, _, _, _, _, _, _, hcap⟩ := hc9
        exact (hcap.2.2.2.2.1 (F, P, sc) List.mem_cons_self).1
      have hmlt : m ≤ 3000 := o8
      -- the state without the fn's scope
      have hv5 : ∀ j i, ¬ (j = 62 ∧ i = 5) → rd (wr σ9 62 5 (rd σ 62 5)) j i = rd σ9 j i := fun j i hj => by rw [rd_wr, if_neg hj]
      have hv55 : rd (wr σ9 62 5 (rd σ 62 5)) 62 5 = rd σ 62 5 := wr_self _ _ _ _
      have hvl : (wr σ9 62 5 (rd σ 62 5)).2 = σ9.2 := rfl
      generalize wr σ9 62 5 (rd σ 62 5) = σ13 at w5 hv5 hv55 hvl
      have hCC : ∀ j i, ¬ (i = P1 ∧ 16 ≤ j ∧ j ≤ 28) → ¬ (i = P1 - 1 ∧ 24 ≤ j ∧ j ≤ 25) → ¬ (j = 15 ∧ i = 13) → ¬ (i = F ∧ (j = 35 ∨ j = 36)) → ¬ (j = 62 ∧ i = 6) → scC j i = false → rd σ12 j i = rd σ13 j i := fun j i h1 h2 h3 h4 h5 h6 => by
        by_cases e : j = 62 ∧ i = 5
        · rw [e.1, e.2, u5, hv55]
        · rw [uC j i h1 h2 h3 h4 (fun q => by
            rcases q.2 with e1 | e1 | e1
            · exact e ⟨q.1, e1⟩
            · exact h5 ⟨q.1, e1⟩
            · rw [q.1, e1] at h6; cases h6), hv5 j i e]
      have hl12 : σ12.2 = σ13.2 := ul.trans hvl.symm
      have hchS13 : chC σ13 sc (rd σ 62 5) := hchS.congr _ _ (fun u _ => ⟨hv5 33 u (by omega), hv5 32 u (by omega)⟩)
      have hchV13 : chC σ13 (Vx :: sc) (i32 Vx) := hchV.congr _ _ (fun u _ => ⟨hv5 33 u (by omega), hv5 32 u (by omega)⟩)
      have hop : OPN σ fs (rd σ 62 6) := by
        obtain ⟨F0, ⟨hc0, _, _⟩, _⟩ := id h
        obtain ⟨V0, S0, C0, q0, cp0, _, _, _, _, _, _, _, _, _, _, _, _, hcap⟩ := hc0
        exact hcap.2.1
      have core : CORE K1 K2 m μ g fc sc fs F9 A1 (P1 + 1) (r + 1) σ12 τ12 := by
        refine CORE.node (κ := 17) (a := A) (b := A1 - 1) (st := P) (kids := [P1 - 1]) (r0 := r) (fs := (F, P, sc) :: fs) (fs' := fs) w5 (by omega) (by omega) (by omega)
          (fun j i h1 h2 h3 h4 h5 h6 h7 => hCC j i h1 (fun q => h2 ⟨by rw [q.1]; exact List.mem_cons_self, by omega, by omega⟩) (by omega) (fun q => h3 ⟨q.2, by rw [q.1]; exact List.mem_cons_self⟩) h6 h7)
          (fun j i h1 h2 h3 h4 h5 => hMn j i h1 (fun q => h2 ⟨by rw [q.1]; exact List.mem_cons_self, q.2⟩) (fun q => by
            rcases q.2 with e | e
            · exact h3 ⟨q.1, Or.inl e⟩
            · rw [q.1, e] at h5; cases h5) (fun q => by
            have : rgN 132 138 j = true := by unfold rgN; rw [Nat.ble_eq_true_of_le (by omega), Nat.blt_eq.mpr (by omega)]; rfl
            unfold scM at h5; rw [this] at h5; cases h5))
          (by rw [hl12]) (by unfold roomC at p10 ⊢; unfold ln rm at p10 ⊢; rw [ul]; exact p10)
          (fun C cp hcp => ⟨C, cp, hcp.fnend (by omega) hFF (by omega) n16' u27 n26' (by rw [n28']; exact hchS13) u35 (by
            have := hcp.2.1.2.2
            rw [u6, ← OPN.det _ _ _ this hop]
            exact this) (fun j i h1 h2 h3 h4 h5 h6 => hCC j i h1 (by omega) h3 h4 h5 h6) hl12⟩)
          ((uP 15 (by omega) (by omega) (by omega) (by omega) 13).trans nC.2.2.2.2.2.1) m46 (fun q h1 h2 => ⟨q, (hMn 123 60 (by omega) (by omega) (by omega) (by omega)).trans h1, Nat.le_refl _, by have h2 : q + (r + 1) ≤ P1 := h2; omega⟩) ⟨(hv5 26 _ (by omega)).trans c2, c1, by omega, by show P1 - 1 + 1 = P1; omega⟩ (fun c hc => by rw [List.mem_singleton.mp hc, hv5 24 _ (by omega)]; exact c3) (by omega) n16' m151 n17' n18' m152 m153 (by omega) (by omega) n26' m161 (n28'.trans hv55.symm) m160 (m159.trans n24'.symm) (fun w c hw => ?_)
          ⟨fun q => absurd q (by omega), fun q => absurd q (by omega), fun q => absurd q (by omega), fun q1 q2 => absurd q2 (by omega), fun q => absurd q (by omega), fun q => absurd q (by omega), fun _ => m158.trans n17'.symm, fun _ => ⟨F, by omega, u27, m157.trans u36.symm, u35⟩, fun _ => ⟨m154.trans (nkid 0 (by omega)).symm, m155.trans (nkid 1 (by omega)).symm, m156.trans (nkid 2 (by omega)).symm, nkid⟩, fun q => absurd q (by omega)⟩
          (fun w c hw => ?_) ⟨fun q => absurd q (by omega), fun q => by omega, fun _ => by rw [u27, i32_ixn (by omega), u36, i32_ixn (by omega)]⟩ ⟨fun q => absurd q (by omega), fun q => absurd q (by omega), fun _ => ⟨?_, ?_⟩⟩ ⟨fun _ => rfl, fun q => absurd q (by omega)⟩ ⟨fun q => absurd q (by omega), fun q => absurd q (by omega)⟩
        · obtain ⟨e1, e2⟩ := nC.2.2.2.2.1 w c hw
          have ec := List.mem_singleton.mp (List.mem_of_getElem? hw)
          exact ⟨(uP 24 (by omega) (by omega) (by omega) (by omega) c).trans e1, (uP 25 (by omega) (by omega) (by omega) (by omega) c).trans e2, by rw [ec]; exact m159c⟩
        · have ec := List.mem_singleton.mp (List.mem_of_getElem? hw)
          have hsl : scl 17 w σ12 P1 = [Vx] := by
            unfold scl
            rw [if_pos rfl, u27, i32_ixn (by omega), u36, i32_ixn (by omega)]
          rw [hsl, ec, hv5 28 _ (by omega), c6, e59]
          exact hchV13
        · rw [u27, i32_ixn (by omega), u36, i32_ixn (by omega), uC 15 19 (by omega) (by omega) (by omega) (by omega) (by omega)]; exact nv9.1
        · rw [u27, i32_ixn (by omega), u36, i32_ixn (by omega), uC 31 Vx (by omega) (by omega) (by omega) (by omega) (by omega)]; exact nv9.2.2.2.1
      have e1513 : rd σ12 15 13 = i32 (P1 + 1 : Nat) := (uP 15 (by omega) (by omega) (by omega) (by omega) 13).trans nC.2.2.2.2.2.1
      have hlast : OLDg [] [Vx] n r H P σ9 τ9 σ12 τ12 := by
        refine ⟨fun i hi j h1 h2 => (hMn j i (by omega) (by omega) (by omega) (by omega)).trans (q7 j i (by omega)), fun i hi j h1 h2 => (hMn j i (by omega) (by omega) (by omega) (by omega)).trans (q7 j i (by omega)), fun i _ => uC 63 i (by omega) (by omega) (by omega) (by omega) (by omega), fun p hp j h1 h2 => uC j p (by omega) (by omega) (by omega) (by omega) (by omega), fun v _ => ⟨by unfold rl; rw [ul], uC 31 v (by omega) (by omega) (by omega) (by omega) (by omega), uC 32 v (by omega) (by omega) (by omega) (by omega) (by omega), uC 33 v (by omega) (by omega) (by omega) (by omega) (by omega)⟩, by rw [uC 15 19 (by omega) (by omega) (by omega) (by omega) (by omega)]; exact Nat.le_refl _, fun j _ i => by unfold rl; rw [ul], OLX.of (fun j i h => uC j i (by omega) (by omega) (by omega) (by omega) (by omega)) (fun j i h => (hMn j i (by omega) (by omega) (by omega) (by omega)).trans (q7 j i (by omega))), MB.node p5 (by omega) e1513 (uC 15 19 (by omega) (by omega) (by omega) (by omega) (by omega)) (fun j i hi h => uC j i (by omega) (by omega) (by omega) (by omega) (by omega)) (fun v hv => hv.only (κ := 17) (V := Vx) n16' (by omega) (Or.inl ⟨rfl, by rw [uC 28 _ (by omega) (by omega) (by omega) (by omega) (by omega), c6, e59]⟩))⟩
      have hall : OLD n r H P σ τ σ12 τ12 := OLDe.bind (E := [Vx]) (OLDe.trans (E := []) hold1 (OLDe.trans (E' := []) hold8 (hold9.mono (by omega) (Nat.le_refl _) (Nat.le_refl _) (Nat.le_refl _)) (Nat.le_refl _) (Nat.le_refl _) (Nat.le_refl _) (Nat.le_refl _)) (Nat.le_refl _) (Nat.le_refl _) (Nat.le_refl _) (Nat.le_refl _)) hlast (Nat.le_refl _) (Nat.le_refl _) (Nat.le_refl _) (Nat.le_refl _) (fun v hv => hv) (fun v hv => ⟨P1, by rw [e1513, i32_ixn (by omega)]; omega, by rw [List.mem_singleton.mp hv]; omega, Or.inl ⟨n16', by omega, by rw [uC 28 _ (by omega) (by omega) (by omega) (by omega) (by omega), c6, e59, List.mem_singleton.mp hv]⟩⟩)
      have hR12 : RF A P (P1 + 1) σ12 := fun q h1 h2 => by
        by_cases e : q = P1
        · rw [e, n17', i32_ixn (by omega)]; exact Nat.le_refl _
        · rw [uC 17 q (by omega) (by omega) (by omega) (by omega) (by omega)]; have := a1.2 q h1 (by omega); omega
      have hw12 : P1 + 1 ≤ wch μ A1 := by omega
      refine Or.inl ⟨_, σ12, τ12, rfl, mS.refl, A1, P1 + 1, rfl, ⟨F9, ⟨core, ⟨(u62 3 (by omega) (by omega) (by omega)).trans r1, (hMn 123 17 (by omega) (by omega) (by omega) (by omega)).trans ((q7 _ _ (by omega)).trans r2), (u62 4 (by omega) (by omega) (by omega)).trans r3, (hMn 123 26 (by omega) (by omega) (by omega) (by omega)).trans ((q7 _ _ (by omega)).trans r4), (u62 11 (by omega) (by omega) (by omega)).trans r5, (hMn 123 18 (by omega) (by omega) (by omega) (by omega)).trans q18, b4', r8, r9, r10, by omega, hw12⟩, by omega⟩, by omega, ?_, fun f hf => ?_, hZ10.node ((q7 _ _ (by omega)).trans p5') (by omega) m46 m160 (fun i hi => hMn 123 i (by omega) (by omega) (by omega) (by omega)) (fun j hj i => hMn j i (by omega) (by omega) (by omega) (by omega)) (fun i hi => hMn 160 i (by omega) (by omega) (by omega) (by omega))⟩, ⟨⟨by omega, hR12⟩, by omega, u8, (u62 9 (by omega) (by omega) (by omega)).trans a4, b1', b2'.trans d2, b3'.trans d3, by omega, n26', n24', n25', n23', n28'.trans u5.symm⟩, by omega, y5', hall⟩
      · rw [u6]
        have hm19 := h.mem19
        obtain ⟨F0, _, _, hO0, _⟩ := h
        rw [hO0]
        cases sc with
        | nil => rfl
        | cons u t => exact ((hall.2.2.2.2.1 u (hm19 u List.mem_cons_self)).2.1).symm
      · obtain ⟨a, e1, e2⟩ := hPF9 f hf
        exact ⟨a, (uC 46 f (by omega) (by omega) (by omega) (by omega) (by omega)).trans e1, by omega⟩
    · rw [if_neg q2] at hmsg
      rw [bV_ex hmsg]
      refine Or.inr (FLT.raw (τ1 := τ4) f4 rfl ?_ (by decide))
      rw [(f1.2.1 _ (by omega)).2.1]
      refine hms _ (fun dm => ?_)
      have ht := htk (dm + 4)
      rw [if_neg q2] at ht
      have ht : rn L xs (dm + 6) 303 0 [.ref 123, .int 20] [] τ4 = _ := ht
      rw [bI_ok (h306 dm), f3, show pv_c1 .ne (0 : Int32) = false from rfl, cond_false, bI_ok ht, show pv_c1 .eq (0 : Int32) = true from rfl, cond_true]
  · rw [bI_ex (hrun.trans (if_neg q))]
    have hq6 := vck_le (σ := σ2) (a := μ (A + 1)) (A := A + 1) (g := g) (fc := fc) (l := sc)
    refine Or.inr (FLT.raw (τ1 := τ2) l4 rfl ?_ (i32_ne0 q hq6))
    rw [(l1.2.1 _ (by omega)).2.1]
    refine hms _ (fun dm => ?_)
    rw [bI_ok ((g4 (dm + 4)).trans (if_neg q)), mFlt_5, (c1_nz q hq6).1, cond_true]
theorem expr_nt {B : Nat} (hE : NT L xs K1 K2 m μ g fc 1 119 0 0 [jv] B) (hC : NT L xs K1 K2 m μ g fc 3 125 1 11 [jv, jv, jv, jv, jv, jv] (B + 1)) : NT L xs K1 K2 m μ g fc 1 119 0 0 [jv] (B + 1) := by
  intro sc fs D H n A P r σ τ d h hX hB hn hd
  obtain ⟨d, rfl⟩ : ∃ d', d = d' + 5 := ⟨d - 5, by omega⟩
  obtain ⟨o1, o2, o3, o4, ⟨o5, o5'⟩, o6, ⟨s1, s2, s3, s4, s5, s6, s7, s8, s9, s10, s11, s12⟩, o8, o9, o10⟩ := h.all
  have hpop := h.pop
  rw [e119_0 (d + 4), s3, show (40 : Int32) = i32 ((40 : Nat) : Int) from rfl, c2_ne (by omega) (by omega) (by omega) (by omega)]
  have p26 : rd (wr τ 123 18 (i32 n)) 123 26 = i32 D := by rw [rd_wr, if_neg (by omega)]; exact s4
  have p17 : rd (wr τ 123 18 (i32 n)) 123 17 = i32 A := by rw [rd_wr, if_neg (by omega)]; exact s2
  have p5 : rd (wr τ 123 18 (i32 n)) 123 5 = 0 := by rw [rd_wr, if_neg (by omega)]; exact o3
  have p18 : rd (wr τ 123 18 (i32 n)) 123 18 = i32 n := wr_self _ _ _ _
  by_cases qD : D = 40
  · rw [c_f (by omega), s1, bV_ex (cfail_ok o1 s8 o4 (d + 2) 6)]
    refine Or.inr (FLT.mk' (τ1 := wr τ 123 18 (i32 n)) hpop s8 (by decide) rfl ?_)
    refine nx s6 (by omega) o3 ⟨hX, rfl, rfl⟩ (pc := 184) (by decide +kernel) (fun dm => ?_)
    rw [e310_184 (dm + 7), bV_ok (r := rn L xs (dm + 7) 311 0 _ _ _) (σ := mFlt (wr τ 123 18 (i32 n)) 6 (rd (wr τ 123 18 (i32 n)) 127 A)), e310_362]
    rw [e311_0 (dm + 6), p26, show (40 : Int32) = i32 ((40 : Nat) : Int) from rfl, c2_ne (by omega) (by omega) (by omega) (by omega), c_f (by omega), p17, c_in (by omega) (by omega) (by omega), i32_ixn (by omega), bV_ok (mfail_ok p5 (dm + 5) _ _)]
    rfl
  rw [c_t (by omega), e119_19 (d + 4), s3, i32_n1]
  -- one deeper
  have h1 : ST K1 K2 m μ g fc sc fs (D + 1) H (n + 1) A P r (wr σ 62 4 (i32 (D + 1 : Nat))) (mPush (wr (wr τ 123 18 (i32 n)) 123 26 (i32 (D + 1 : Nat))) n 2 0 0) := by
    have h0 : ST K1 K2 m μ g fc sc fs (D + 1) H n A P r (wr σ 62 4 (i32 (D + 1 : Nat))) (wr (wr τ 123 18 (i32 n)) 123 26 (i32 (D + 1 : Nat))) := hpop.ag (agC.refl.wr rfl) (agM.refl.wr rfl) (Nat.le_refl _) s8 (by omega) s10 (by omega) (by rw [rd_wr, if_neg (by omega)]; exact s1) (by rw [rd_wr, if_neg (by omega)]; exact p17) (wr_self _ _ _ _) (wr_self _ _ _ _) (by rw [rd_wr, if_neg (by omega)]; exact s5) (by rw [rd_wr, if_neg (by omega)]; exact p18) (by rw [rd_wr, if_neg (by omega), rd_wr, if_neg (by omega)]; exact s7)
    exact h0.push (by omega) 2 0 0
  have hold1 : OLD n r H P σ τ (wr σ 62 4 (i32 (D + 1 : Nat))) (mPush (wr (wr τ 123 18 (i32 n)) 123 26 (i32 (D + 1 : Nat))) n 2 0 0) := (((OLD.refl.wrC (Or.inl rfl)).wrM (by omega)).wrM (by omega)).push (by omega)
  have i1 : IT (mPush (wr (wr τ 123 18 (i32 n)) 123 26 (i32 (D + 1 : Nat))) n 2 0 0) n 2 0 0 := IT.at rfl
  have hstart : ∀ (pc : Nat) (τe : tvS), ((insP 311 51).bind fun q => tv_sw q.1 51 (i32 (μ A))) = some pc → (∀ dm, rn L xs (dm + 7) 311 pc [.ref 123, .int (i32 A), jv] [] (mPush (wr (wr τ 123 18 (i32 n)) 123 26 (i32 (D + 1 : Nat))) n 2 0 0) = some (.inl none, τe)) → mS L xs τ τe := by
    intro pc τe hsw he
    refine nx s6 (by omega) o3 ⟨hX, rfl, rfl⟩ (pc := 184) (by decide +kernel) (fun dm => ?_)
    rw [e310_184 (dm + 7), bV_ok (r := rn L xs (dm + 7) 311 0 _ _ _) (σ := τe), e310_362]
    rw [e311_0 (dm + 6), p26, show (40 : Int32) = i32 ((40 : Nat) : Int) from rfl, c2_ne (by omega) (by omega) (by omega) (by omega), c_t (by omega), e311_25 (dm + 6), p26, i32_n1, bV_ok (mpush_ok (n := n) (by rw [rd_wr, if_neg (by omega)]; exact p18) (by omega) (dm + 5) _ _ _), bI_ok (h1.mk (dm + 5)), swk_of hsw]
    have q17 : rd (mPush (wr (wr τ 123 18 (i32 n)) 123 26 (i32 (D + 1 : Nat))) n 2 0 0) 123 17 = i32 A := by rw [mPush_s (by omega), rd_wr, if_neg (by omega)]; exact p17
    rw [q17]
    exact he dm
  generalize mPush (wr (wr τ 123 18 (i32 n)) 123 26 (i32 (D + 1 : Nat))) n 2 0 0 = τ1 at h1 hold1 i1 hstart
  generalize wr σ 62 4 (i32 (D + 1 : Nat)) = σ1 at h1 hold1
  have hn1 : n + 1 ≤ 8 * A + 1 := by omega
  -- the end
  have fin : ∀ (R : tvR), OUTI L xs K1 K2 τ R (NTQ K1 K2 m μ g fc sc fs (D + 1) H (n + 1) r A P σ1 τ1) → OUTI L xs K1 K2 τ (bI R (fun a4 s3 => rn L xs (d + 4 + 1) 119 100 [.ref 62, .int a4] [] s3) X0) (NTQ K1 K2 m μ g fc sc fs D H n r A P σ τ) := by
    intro R hR
    refine OUTI.bI hR (fun a σ2 τ2 hQ => ?_)
    obtain ⟨A1, P1, y1, y2, y3, y4, y5, y6⟩ := hQ
    obtain ⟨p1, p2, p3, p4, p5, p6, ⟨r1, r2, r3, r4, r5, r6, r7, r8, r9, r10, r11, r12⟩, p8, p9, p10⟩ := y2.all
    have hpop2 := y2.pop
    have hmS : mS L xs τ2 (wr (wr τ2 123 18 (i32 n)) 123 26 (i32 D)) := by
      refine nx r6 (by omega) p3 (IT.old y6 (by omega) i1) (pc := 191) (by decide +kernel) (fun dm => ?_)
      have e26 : rd (wr τ2 123 18 (i32 n)) 123 26 = i32 (D + 1 : Nat) := by rw [rd_wr, if_neg (by omega)]; exact r4
      rw [e310_191 (dm + 7), e26, i32_s1 (by omega), show D + 1 - 1 = D by omega, e310_362]
    refine OUTI.pre hmS ?_
    rw [e119_100, r3, i32_s1 (by omega), show D + 1 - 1 = D by omega]
    have hST : ST K1 K2 m μ g fc sc fs D H n A1 P1 (r + 1) (wr σ2 62 4 (i32 D)) (wr (wr τ2 123 18 (i32 n)) 123 26 (i32 D)) := hpop2.ag (agC.refl.wr rfl) (agM.refl.wr rfl) (Nat.le_refl _) r8 (by omega) r10 (by omega) (by rw [rd_wr, if_neg (by omega)]; exact r1) (by rw [rd_wr, if_neg (by omega), rd_wr, if_neg (by omega)]; exact r2) (wr_self _ _ _ _) (wr_self _ _ _ _) (by rw [rd_wr, if_neg (by omega)]; exact r5) (by rw [rd_wr, if_neg (by omega), wr_self]) (by rw [rd_wr, if_neg (by omega), rd_wr, if_neg (by omega)]; exact r7)
    refine OUTI.fin ⟨A1, P1, y1, hST, y3.stay (fun j _ _ => wr_nek (by omega)) (by rw [rd_wr, if_neg (by omega)]) (by rw [rd_wr, if_neg (by omega)]) (by rw [rd_wr, if_neg (by omega)]) (fun j h1 h2 => by rw [wr_nek (by omega), wr_nek (by omega)]), y4, y5, ?_⟩ rfl
    exact hold1.trans ((y6.mono (by omega) (Nat.le_refl _) (Nat.le_refl _) (Nat.le_refl _)).trans (((OLD.refl.wrC (Or.inl rfl)).wrM (by omega)).wrM (by omega)) (Nat.le_refl _) (Nat.le_refl _) (Nat.le_refl _) (Nat.le_refl _)) (Nat.le_refl _) (Nat.le_refl _) (Nat.le_refl _) (Nat.le_refl _)
  have hm36 := h.mu36
  rw [bI_ok (h1.wd (x := 2) (w := 2) rfl (by omega) (d + 2)), c1_eq_bN]
  by_cases q1 : μ A = 3 + 2
  · rw [decide_eq_true q1, cond_true]
    exact fin _ (fn_ok hE h1 q1 (by omega) hn1 (by omega) (fun τe he => hstart 92 τe (by rw [q1]; decide +kernel) he))
  rw [decide_eq_false q1, cond_false, e119_45 (d + 4), bI_ok (h1.wd (x := 3) (w := 3) rfl (by omega) (d + 2)), c1_eq_bN]
  by_cases q2 : μ A = 3 + 3
  · rw [decide_eq_true q2, cond_true]
    exact fin _ (choice_ok hE h1 q2 (by omega) hn1 (by omega) (fun τe he => hstart 146 τe (by rw [q2]; decide +kernel) he))
  rw [decide_eq_false q2, cond_false, e119_61 (d + 4), bI_ok (h1.wd (x := 6) (w := 6) rfl (by omega) (d + 2)), c1_eq_bN]
  by_cases q3 : μ A = 3 + 6
  · rw [decide_eq_true q3, cond_true]
    exact fin _ (let_ok hE h1 q3 (by omega) hn1 (by omega) (fun τe he => hstart 206 τe (by rw [q3]; decide +kernel) he))
  rw [decide_eq_false q3, cond_false, e119_78 (d + 4), bI_ok (h1.wd (x := 8) (w := 8) rfl (by omega) (d + 2)), c1_eq_bN]
  by_cases q4 : μ A = 3 + 8
  · rw [decide_eq_true q4, cond_true]
    exact fin _ (case_ok hE h1 q4 (by omega) hn1 (by omega) (fun τe he => hstart 279 τe (by rw [q4]; decide +kernel) he))
  rw [decide_eq_false q4, cond_false, e119_95 (d + 4)]
  refine fin _ ?_
  have hsw : ∀ x, x < 37 → (x = 5 ∨ x = 6 ∨ x = 9 ∨ x = 11) ∨ ((insP 311 51).bind fun q => tv_sw q.1 51 (i32 (x : Nat))) = some 350 := by decide +kernel
  obtain ⟨_, _, _, _, _, _, ⟨t1, t2, t3, t4, t5, t6, t7, t8, t9, t10, t11, t12⟩, _⟩ := h1.all
  have hmS : mS L xs τ (mPush τ1 (n + 1) 3 0 0) := hstart 350 _ ((hsw (μ A) (by omega)).resolve_left (fun q => by omega)) (fun dm => by rw [e311_350 (dm + 6), bV_ok (mpush_ok (n := n + 1) t6 (by omega) (dm + 5) _ _ _), e311_357])
  refine OUTI.pre hmS ?_
  have h2 := h1.push (by omega) 3 0 0
  have hc := hC sc fs (D + 1) H (n + 1) A P r σ1 (mPush τ1 (n + 1) 3 0 0) (d + 4) h2 (IT.at (X := 3) rfl).1 hB (by omega) (by omega)
  refine OUTI.mono hc (fun a σ' τ' hQ => ?_)
  obtain ⟨A1, P1, y1, y2, y3, y4, y5, y6⟩ := hQ
  exact ⟨A1, P1, y1, y2, y3, y4, y5, (OLD.refl.push (Nat.le_refl _)).trans y6 (Nat.le_refl _) (Nat.le_refl _) (Nat.le_refl _) (Nat.le_refl _)⟩
theorem expr_all : ∀ B, NT L xs K1 K2 m μ g fc 1 119 0 0 [jv] B := by
  intro B
  induction B with
  | zero => intro sc fs D H n A P r σ τ d _ _ h; exact absurd h (Nat.not_lt_zero _)
  | succ B ih => exact expr_nt ih (chain_nt (comp_nt (sum_nt (prod_nt (appl_nt (atom_nt ih))))))
end EXPR
