/-! RUNS: the start of a run, the component -/
section CSTART
variable {L : Nat} {xs : Nat → Int32} {σ σ' σ1 : tvS} {D : pgD} {m : Nat} {rg : rgD} {cd : cdD} {wd pgs ev : Nat} {R : Nat → Int32} {cs : Nat} {X Xs : dyD} {pl : Nat → Nat} {fl : List Nat} {bk : Nat → Nat} {a : Nat} {fn0 : Nat → Nat × Nat} {s0 : cSt}
/-- regions that main gives -/
theorem gmk_loop (h20 : D.fc ≤ 20) (hnK : rg.nK D.fc ≤ 60) (how : ∀ k, k < rg.nK D.fc → -1 ≤ rg.ow D.fc k ∧ rg.ow D.fc k < 4101) (hf : ∀ j, Xs.ff j = D.fc) (d : Nat) : ∀ (j k : Nat) (σ : tvS) (pg : Nat → List Nat), k + j = rg.nK D.fc → RMc D rg cd R cs wd pgs ev (mkL Xs 0 0 (nfil (fun k => rg.ow D.fc k = -1) k)) 0 0 (nfil (fun k => rg.ow D.fc k = -1) k).length (mkF fn0 D.fc 0 (nfil (fun k => rg.ow D.fc k = -1) k)) (mkS s0 0 (nfil (fun k => rg.ow D.fc k = -1) k)) 0 pl pg fl bk a σ →
    ∃ (σ' : tvS) (pg' : Nat → List Nat), rn L xs (d + 4) 258 47 [.ref 117, .int (i32 ((k + 1 : Nat) : Int))] [] σ = some (.inl none, σ') ∧ RMc D rg cd R cs wd pgs ev (mkL Xs 0 0 (rg.gl D.fc)) 0 0 (rg.gl D.fc).length (mkF fn0 D.fc 0 (rg.gl D.fc)) (mkS s0 0 (rg.gl D.fc)) 0 pl pg' fl bk a σ' ∧ frW RCr σ σ' := by
  intro j
  induction j with
  | zero =>
    intro k σ pg hk h
    have e10 : rd σ 117 10 = i32 (D.fc : Int) := by
      have := h.2.2.1.1.2.1
      have ef : (mkL Xs 0 0 (nfil (fun k => rg.ow D.fc k = -1) k)).ff 0 = D.fc := by unfold dyD.ff; rw [(mkL_B _ Xs 0).2.2.2.2.1]; exact hf 0
      rw [ef] at this; exact this
    have p1 : rn L xs (d + 3) 179 0 [.ref 74, .int (i32 (D.fc : Int))] [] σ = some (.inl (some (.int (i32 (rg.nK D.fc : Int)))), σ) := by
      rw [e179_0, c_in (by omega) (by omega) (by omega), i32_ixn (by omega), (h.1.2.1 D.fc (Nat.le_refl _)).2.1]
    refine ⟨σ, pg, ?_, ?_, frW.refl⟩
    · rw [e258_47 (d + 3), e10, bI_ok p1, c2_gt (by omega) (by omega) (by omega) (by omega), c_t (by omega), e258_89]
    · rw [show k = rg.nK D.fc by omega] at h
      exact h
  | succ j ih =>
    intro k σ pg hk h
    obtain ⟨l, hl⟩ : ∃ l, l = nfil (fun k => rg.ow D.fc k = -1) k := ⟨_, rfl⟩
    rw [← hl] at h
    have hlk : l.length ≤ k := by rw [hl]; exact nfil_len k
    obtain ⟨B1, B2, B3, B4, B5, B6⟩ := mkL_B (i := 0) l Xs 0
    have hff : ∀ j, (mkL Xs 0 0 l).ff j = D.fc := fun j => by unfold dyD.ff; rw [B5]; exact hf j
    have e10 : rd σ 117 10 = i32 (D.fc : Int) := by have := h.2.2.1.1.2.1; rw [hff] at this; exact this
    have p1 : rn L xs (d + 3) 179 0 [.ref 74, .int (i32 (D.fc : Int))] [] σ = some (.inl (some (.int (i32 (rg.nK D.fc : Int)))), σ) := by
      rw [e179_0, c_in (by omega) (by omega) (by omega), i32_ixn (by omega), (h.1.2.1 D.fc (Nat.le_refl _)).2.1]
    obtain ⟨fst, g1, g2, g3, g4, g5⟩ := h.1.2.2.2.2.2.2
    have ei : (i32 (fst : Int) + i32 ((k + 1 : Nat) : Int)) - 1 = i32 ((fst + k : Nat) : Int) := by rw [show (1 : Int32) = i32 1 from rfl, i32_add, i32_sub]; congr 1; omega
    have p2 : rn L xs (d + 3) 174 0 [.ref 74, .int (i32 (D.fc : Int)), .int (i32 ((k + 1 : Nat) : Int))] [] σ = some (.inl (some (.int (i32 (rg.ow D.fc k)))), σ) := by
      rw [e174_0, c_in (by omega) (by omega) (by omega), i32_ixn (by omega), g1, ei, c_in (by omega) (by show ((fst + k : Nat) : Int) < (ln σ 82 : Int); omega) (by omega), i32_ixn (by omega), g5 k (by omega)]
    have hw := how k (by omega)
    have hd : ∀ σ1 : tvS, (rg.ow D.fc k = -1 → rn L xs (d + 3) 259 0 [.ref 117, .int (i32 ((k + 1 : Nat) : Int))] [] σ = some (.inl none, σ1)) → (rg.ow D.fc k ≠ -1 → σ1 = σ) → rn L xs (d + 4) 258 47 [.ref 117, .int (i32 ((k + 1 : Nat) : Int))] [] σ = rn L xs (d + 4) 258 47 [.ref 117, .int (i32 ((k + 1 + 1 : Nat) : Int))] [] σ1 := fun σ1 h1 h2 => by
      rw [e258_47 (d + 3), e10, bI_ok p1, c2_gt (by omega) (by omega) (by omega) (by omega), c_f (by omega), e10, bI_ok p2, i32_raw, c2_ne (by omega) (by omega) (by omega) (by omega)]
      by_cases c : rg.ow D.fc k = -1
      · rw [c_f (by omega), bV_ok (h1 c), e258_83, i32_up]
      · rw [c_t c, h2 c, e258_83, i32_up]
    by_cases c : rg.ow D.fc k = -1
    · have el : nfil (fun k => rg.ow D.fc k = -1) (k + 1) = l ++ [k + 1] := by rw [nfil_y c, hl]
      have ell : (l ++ [k + 1]).length = l.length + 1 := by rw [List.length_append]; rfl
      have eX : mkL Xs 0 0 (l ++ [k + 1]) = mkX (mkL Xs 0 0 l) 0 (k + 1) l.length := by rw [mkL_app, Nat.zero_add]; rfl
      have eF : mkF fn0 D.fc 0 (l ++ [k + 1]) = uq (mkF fn0 D.fc 0 l) l.length (D.fc, k + 1) := by rw [mkF_app, Nat.zero_add]; rfl
      have eS : mkS s0 0 (l ++ [k + 1]) = (uq (mkS s0 0 l).R l.length (0, 0, 0), (mkS s0 0 l).2) := by rw [mkS_app, Nat.zero_add]; rfl
      obtain ⟨σ1, y1, y2, y3, y4, y5, y6⟩ := rmk_c (L := L) (xs := xs) (f := D.fc) (k := k + 1) h.2.1 h.2.2.1 h.2.2.2.1 (hff 0) ⟨by omega, by omega⟩ (fun j hj => by rw [hff]; exact hnK) (by omega) (fun o ⟨q, hq, _⟩ => absurd hq (Nat.not_lt_zero q)) d
      obtain ⟨σ2, pg', z1, z2, z3⟩ := ih (k + 1) σ1 (uq pg l.length []) (by omega) (by
        rw [el, ell, eX, eF, eS]
        exact ⟨h.1.fr y5 rfl, y2, y3, y4, by rw [y5.1 117 rfl]; exact h.2.2.2.2.1, by rw [← h.2.2.2.2.2]; funext z; exact y5.1 95 rfl z⟩)
      exact ⟨σ2, pg', by rw [hd σ1 (fun _ => y1) (fun e => absurd c e)]; exact z1, z2, (y5.sub rfl).trans z3⟩
    · obtain ⟨σ2, pg', z1, z2, z3⟩ := ih (k + 1) σ pg (by omega) (by rw [nfil_n c, ← hl]; exact h)
      exact ⟨σ2, pg', by rw [hd σ (fun e => absurd e c) (fun _ => rfl)]; exact z1, z2, z3⟩
/-- a run begins -/
theorem rbegin_c (hRS : RSc D rg cd cs σ) (h20 : D.fc ≤ 20) (hnK : rg.nK D.fc ≤ 60) (how : ∀ k, k < rg.nK D.fc → -1 ≤ rg.ow D.fc k ∧ rg.ow D.fc k < 4101) (hpg : pgs ≤ 400) (hp1 : 1 ≤ pgs) (hwd : 1 ≤ wd ∧ wd ≤ 128) (h4 : rd σ 103 4 = i32 (pgs : Int)) (h5 : rd σ 103 5 = i32 (wd : Int)) (h7 : rd σ 117 7 = i32 (ev : Int)) (v1 : Value) (d : Nat) :
    ∃ (σ' : tvS) (pg' : Nat → List Nat) (Ep eb : Nat), rn L xs (d + 4) 258 0 [.ref 117, v1] [] σ = some (.inl none, σ') ∧ RMc D rg cd (rd σ 95) cs wd pgs ev (mkL (stX D) 0 0 (rg.gl D.fc)) 0 0 (rg.gl D.fc).length (mkF fn0 D.fc 0 (rg.gl D.fc)) (mkS (fun _ => (0, 0, 0), 0, 0, 0, 0) 0 (rg.gl D.fc)) 0 pl pg' (rgL 0 pgs) bk Ep σ' ∧ CA D rg cd (rd σ 95) D.fc 100 (D.bP (D.fc + 1) - 1) Ep eb ∧ rd σ 95 eb = 27 ∧ eb < cs ∧ frW RCr σ σ' := by
  -- it stops
  have p1 : rn L xs (d + 1) 216 0 [.ref 100] [] (wr σ 117 5 0) = some (.inl none, wr (wr σ 117 5 0) 100 2 0) := e216_0 d _
  obtain ⟨σ1, a1, a2, a3, a4⟩ := release_c (L := L) (xs := xs) (σ := wr (wr σ 117 5 0) 100 2 0) hpg hp1 (by rw [wr_nek (by decide), wr_nek (by decide)]; exact h4) d
  obtain ⟨σ2, e2⟩ : ∃ σ2, σ2 = wr σ1 117 17 0 := ⟨_, rfl⟩
  have p2 : rn L xs (d + 2) 252 0 [.ref 117, .int 0] [] σ = some (.inl none, σ2) := by rw [e252_0 (d + 1), bV_ok p1, bV_ok a1, ← e2]
  have w2 : frW [100, 103, 106, 117] σ σ2 := by rw [e2]; exact ((frW_wr rfl).trans (frW_wr rfl)).trans ((a4.sub rfl).trans (frW_wr rfl))
  have k2 : ∀ q, q ≠ 8 → q ≠ 9 → q ≠ 19 → rd σ2 103 q = rd σ 103 q := fun q q1 q2 q3 => by rw [e2, wr_nek (by decide), a3 q q1 q2 q3, wr_nek (by decide), wr_nek (by decide)]
  obtain ⟨σ3, b1, b2, b3, b4⟩ := release_c (L := L) (xs := xs) (σ := σ2) hpg hp1 (by rw [k2 4 (by decide) (by decide) (by decide)]; exact h4) d
  obtain ⟨σ4, e4⟩ : ∃ σ4, σ4 = wr (wr (wr (wr (wr σ3 103 10 0) 103 20 0) 103 21 0) 103 22 0) 103 23 0 := ⟨_, rfl⟩
  have p3 : rn L xs (d + 2) 227 0 [.ref 103] [] σ2 = some (.inl none, σ4) := by rw [e227_0 (d + 1), bV_ok b1, ← e4]
  obtain ⟨σ5, e5⟩ : ∃ σ5, σ5 = wr σ4 117 6 0 := ⟨_, rfl⟩
  have p4 : rn L xs (d + 3) 251 0 [.ref 117] [] σ = some (.inl none, σ5) := by rw [e251_0 (d + 2), bV_ok p2, bV_ok p3, ← e5]
  have w34 : frW [103] σ3 σ4 := by rw [e4]; exact (frW_wr rfl).trans ((frW_wr rfl).trans ((frW_wr rfl).trans ((frW_wr rfl).trans (frW_wr rfl))))
  have w5 : frW [100, 103, 106, 117] σ σ5 := by rw [e5]; exact w2.trans ((b4.sub rfl).trans ((w34.sub rfl).trans (frW_wr rfl)))
  have e38 : rd σ5 15 38 = i32 (D.fc : Int) := by rw [w5.1 15 rfl]; exact hRS.2.2.2.2.2.1
  obtain ⟨Ep, eb, F1, F2, F3, F4⟩ := (hRS.2.1 D.fc (Nat.le_refl _)).1
  rw [if_pos rfl] at F3
  obtain ⟨σ6, e6⟩ : ∃ σ6, σ6 = wr (wr σ5 117 5 1) 117 10 (i32 (D.fc : Int)) := ⟨_, rfl⟩
  have w6 : frW [117] σ5 σ6 := by rw [e6]; exact (frW_wr rfl).trans (frW_wr rfl)
  have p5 : rn L xs (d + 3) 211 0 [.ref 94, .int (i32 (D.fc : Int))] [] σ6 = some (.inl (some (.int (i32 (Ep : Int)))), σ6) := by
    rw [e211_0, c_in (by omega) (by omega) (by omega), i32_ixn (by omega), w6.1 96 rfl, w5.1 96 rfl, F1]
  obtain ⟨σ7, e7⟩ : ∃ σ7, σ7 = wr (wr (wr σ6 117 8 (i32 (Ep : Int))) 117 9 0) 117 11 0 := ⟨_, rfl⟩
  have w7 : frW [117] σ5 σ7 := by rw [e7]; exact w6.trans ((frW_wr rfl).trans ((frW_wr rfl).trans (frW_wr rfl)))
  have w07 : frW [100, 103, 106, 117] σ σ7 := w5.trans (w7.sub rfl)
  have k7 : ∀ q, rd σ7 103 q = rd σ4 103 q := fun q => by rw [w7.1 103 rfl, e5, wr_nek (by decide)]
  have k4 : ∀ q, q ≠ 10 → q ≠ 20 → q ≠ 21 → q ≠ 22 → q ≠ 23 → rd σ4 103 q = rd σ3 103 q := fun q q1 q2 q3 q4 q5 => by rw [e4, wr_nei q5, wr_nei q4, wr_nei q3, wr_nei q2, wr_nei q1]
  have k3 : ∀ q, q ≠ 8 → q ≠ 9 → q ≠ 19 → rd σ3 103 q = rd σ 103 q := fun q q1 q2 q3 => by rw [b3 q q1 q2 q3, k2 q q1 q2 q3]
  have h106 : ∀ q, rd σ7 106 q = rd σ3 106 q := fun q => by rw [w7.1 106 rfl, e5, wr_nek (by decide), w34.1 106 rfl]
  obtain ⟨c1, c2, c3, c4⟩ := b2
  have hX : RMc D rg cd (rd σ 95) cs wd pgs ev (stX D) 0 0 0 fn0 ((fun _ => (0, 0, 0), 0, 0, 0, 0) : cSt) 0 pl (fun _ => []) (rgL 0 pgs) bk Ep σ7 := by
    refine ⟨hRS.fr w07 rfl, ⟨⟨⟨?_, ?_, ?_, ?_, ?_, ?_, ?_, ?_⟩, ?_, fun r hr => absurd hr (Nat.not_lt_zero r), ⟨fun r hr => absurd hr (Nat.not_lt_zero r), rgL_nodup _ _, fun p hp => ⟨by have := (rgL_mem _ _).mp hp; omega, List.not_mem_nil⟩, fun p hp => (List.not_mem_nil hp).elim⟩, by rw [rgL_len]; rfl, Nat.zero_le _, hpg, hwd.2, hwd.1⟩, ⟨?_, Nat.zero_le _, fun k hk => absurd hk (Nat.not_lt_zero k)⟩, ⟨fun o ⟨q, hq, _⟩ => absurd hq (Nat.not_lt_zero q), fun o o' ⟨q, hq, _⟩ => absurd hq (Nat.not_lt_zero q)⟩, ⟨Nat.le_refl _, Nat.zero_le _, rfl, fun r hr => absurd hr (Nat.not_lt_zero r)⟩⟩, ⟨⟨?_, ?_, ?_, ?_, Nat.zero_le _⟩, fun j hj => absurd hj (Nat.not_lt_zero j), fun j k _ _ _ h2 => absurd (show (2000 : Nat) < 2000 from h2) (by decide)⟩, ⟨fun r hr => absurd hr (Nat.not_lt_zero r), ?_, Nat.le_refl _, ?_, ?_, ?_, ?_⟩, ?_, ?_⟩
    · rw [k7, k4 4 (by decide) (by decide) (by decide) (by decide) (by decide), k3 4 (by decide) (by decide) (by decide)]; exact h4
    · rw [k7, k4 5 (by decide) (by decide) (by decide) (by decide) (by decide), k3 5 (by decide) (by decide) (by decide)]; exact h5
    · rw [k7, k4 8 (by decide) (by decide) (by decide) (by decide) (by decide)]; exact c1
    · rw [k7, k4 9 (by decide) (by decide) (by decide) (by decide) (by decide)]; exact c3
    · rw [k7, e4, wr_nei (by decide), wr_nei (by decide), wr_nei (by decide), wr_nei (by decide), wr_self]; rfl
    · rw [k7, k4 19 (by decide) (by decide) (by decide) (by decide) (by decide)]; exact c4
    · rw [k7, e4, wr_nei (by decide), wr_self]; rfl
    · rw [k7, e4, wr_self]; rfl
    · exact lkF.congr _ _ c2 (fun q _ => h106 q)
    · rw [w7.1 100 rfl, e5, wr_nek (by decide), w34.1 100 rfl, b4.1 100 rfl, e2, wr_nek (by decide), a4.1 100 rfl, wr_self]; rfl
    · rw [e7, wr_nei (by decide), wr_self]; rfl
    · rw [e7, wr_nei (by decide), wr_nei (by decide), wr_nei (by decide), e6, wr_self]; rfl
    · rw [e7, wr_self]; rfl
    · rw [e7, wr_nei (by decide), wr_nei (by decide), wr_nei (by decide), e6, wr_nei (by decide), wr_nei (by decide), e5, wr_nei (by decide), w34.1 117 rfl, b4.1 117 rfl, e2, wr_self]; rfl
    · rw [k7, e4, wr_nei (by decide), wr_nei (by decide), wr_nei (by decide), wr_self]; rfl
    · rw [k7, e4, wr_nei (by decide), wr_nei (by decide), wr_self]; rfl
    · rw [e7, wr_nei (by decide), wr_nei (by decide), wr_nei (by decide), e6, wr_nei (by decide), wr_self]
    · rw [e7, wr_nei (by decide), wr_nei (by decide), wr_nei (by decide), e6, wr_nei (by decide), wr_nei (by decide), e5, wr_self]; rfl
    · rw [e7, wr_nei (by decide), wr_nei (by decide), wr_nei (by decide), e6, wr_nei (by decide), wr_nei (by decide), e5, wr_nei (by decide), w34.1 117 rfl, b4.1 117 rfl, e2, wr_nei (by decide), a4.1 117 rfl, wr_nek (by decide), wr_nei (by decide)]; exact h7
    · rw [e7, wr_nei (by decide), wr_nei (by decide), wr_self]
    · funext q; exact w07.1 95 rfl q
  obtain ⟨σ8, pg', z1, z2, z3⟩ := gmk_loop (L := L) (xs := xs) (Xs := stX D) (fn0 := fn0) h20 hnK how (fun _ => rfl) d (rg.nK D.fc) 0 σ7 (fun _ => []) (by omega) hX
  refine ⟨σ8, pg', Ep, eb, ?_, z2, F2, F3, F4, (w07.sub rfl).trans z3⟩
  rw [e258_0 (d + 3), bV_ok p4, e38, ← e6, bI_ok p5, ← e7]
  exact z1
end CSTART
