/-! RUNS: the start of a run, the model -/
section MSTART
variable {L : Nat} {xs : Nat → Int32} {τ τ' τ0 τ1 : tvS} {D : pgD} {m : Nat} {rg : rgD} {cd : cdD} {vd : Nat → Nat} {N : Nat} {G : tG} {rr : Nat → Nat} {wd pgs ev mt : Nat} {Xs : dyD} {fn0 : Nat → Nat × Nat} {s0 : cSt} {oa : Nat → Nat}
/-- regions that main gives -/
theorem gmm_loop (hRS : RSm D rg cd vd N G rr τ0) (h20 : D.fc ≤ 20) (hlen : (rg.gl D.fc).length ≤ 60) (hm : ∀ k, k ∈ rg.gl D.fc → k < 64) (hB : Xs.B + 100 < 10000000) (d : Nat) : ∀ (j k : Nat) (τ : tvS) (v3 : Value), k + j = (rg.gl D.fc).length → frM [213, 216, 217, 218, 219, 220, 221] [129, 144] τ0 τ → MFr (mkL Xs 0 0 ((rg.gl D.fc).take k)) 0 τ → MPu (mkF fn0 D.fc 0 ((rg.gl D.fc).take k)) (mkS s0 0 ((rg.gl D.fc).take k)) 0 (mkL Xs 0 0 ((rg.gl D.fc).take k)).B (mkL Xs 0 0 ((rg.gl D.fc).take k)).ser k τ →
    ∃ (τ' : tvS) (v2 v3' : Value), rn L xs (d + 2) 394 84 [.ref 123, .int (i32 (D.fc : Int)), .int (i32 (k : Int)), v3] [] τ = rn L xs (d + 2) 394 117 [.ref 123, .int (i32 (D.fc : Int)), v2, v3'] [] τ' ∧ MFr (mkL Xs 0 0 (rg.gl D.fc)) 0 τ' ∧ MPu (mkF fn0 D.fc 0 (rg.gl D.fc)) (mkS s0 0 (rg.gl D.fc)) 0 (mkL Xs 0 0 (rg.gl D.fc)).B (mkL Xs 0 0 (rg.gl D.fc)).ser (rg.gl D.fc).length τ' ∧ frM [213, 216, 217, 218, 219, 220, 221] [129, 144] τ0 τ' := by
  obtain ⟨gl, hgl⟩ : ∃ gl, gl = rg.gl D.fc := ⟨_, rfl⟩
  obtain ⟨_, n1, n2, n3, n4⟩ := hRS.2.1 D.fc (Nat.le_refl _)
  rw [← hgl] at hlen hm n2 n3 ⊢
  intro j
  induction j with
  | zero =>
    intro k τ v3 hk w hF hP
    refine ⟨τ, .int (i32 (k : Int)), v3, ?_, ?_, ?_, w⟩
    · rw [e394_84, c_in (by omega) (by omega) (by omega), i32_ixn (by omega), w.rd (j := 191) rfl, n2, c2_ge (by omega) (by omega) (by omega) (by omega), c_t (by omega)]
    · rw [List.take_of_length_le (by omega)] at hF; exact hF
    · rw [List.take_of_length_le (by omega), show k = gl.length by omega] at hP; exact hP
  | succ j ih =>
    intro k τ v3 hk w hF hP
    obtain ⟨x, hx⟩ : ∃ x, gl[k]? = some x := ⟨_, List.getElem?_eq_getElem (by omega)⟩
    have hxm := hm x (List.mem_of_getElem? hx)
    obtain ⟨l, hl⟩ : ∃ l, l = gl.take k := ⟨_, rfl⟩
    have hll : l.length = k := by rw [hl, List.length_take]; omega
    have el : gl.take (k + 1) = l ++ [x] := by rw [List.take_succ, hx, hl]; rfl
    rw [← hl] at hF hP
    have e64 : (64 : Int32) * i32 (D.fc : Int) + i32 (k : Int) = i32 ((64 * D.fc + k : Nat) : Int) := by rw [show (64 : Int32) = i32 64 from rfl, i32_mul, i32_add]; congr 1
    have e192 : rd τ 192 (64 * D.fc + k) = i32 (x : Int) := by
      rw [w.rd (j := 192) rfl, n3 k (by omega), List.getD_eq_getElem?_getD, hx]; rfl
    have eX : mkL Xs 0 0 (l ++ [x]) = mkX (mkL Xs 0 0 l) 0 x k := by rw [mkL_app, Nat.zero_add, hll]; rfl
    have eF : mkF fn0 D.fc 0 (l ++ [x]) = uq (mkF fn0 D.fc 0 l) k (D.fc, x) := by rw [mkF_app, Nat.zero_add, hll]; rfl
    have eS : mkS s0 0 (l ++ [x]) = (uq (mkS s0 0 l).R k (0, 0, 0), (mkS s0 0 l).2) := by rw [mkS_app, Nat.zero_add, hll]; rfl
    have hBB : (mkL Xs 0 0 l).B < 10000000 := by rw [(mkL_B l Xs 0).1]; omega
    obtain ⟨τ1, a1, a2, a3, a4, a5⟩ := region_m (L := L) (xs := xs) (f := D.fc) (k := x) hP.1 hF hP.2 (by omega) (by omega) mkX_ok hBB d
    obtain ⟨τ', v2, v3', z1, z2, z3, z4⟩ := ih (k + 1) τ1 (.int 1) (by omega) (w.trans a5) (by rw [el, eX]; exact a3) (by
      rw [el, eX, eF, eS]
      refine ⟨?_, a4⟩
      have eY : uq (fun q => ((mkF fn0 D.fc 0 l q).1, (mkF fn0 D.fc 0 l q).2, (mkS s0 0 l).R q)) k (D.fc, x, 0, 0, 0) = (fun q => ((uq (mkF fn0 D.fc 0 l) k (D.fc, x) q).1, (uq (mkF fn0 D.fc 0 l) k (D.fc, x) q).2, (uq (mkS s0 0 l).R k (0, 0, 0)) q)) := by
        funext q
        by_cases e : q = k
        · rw [e, uq_self, uq_self, uq_self]
        · rw [uq_ne e, uq_ne e, uq_ne e]
      rw [eY] at a2
      exact a2)
    refine ⟨τ', v2, v3', ?_, z2, z3, z4⟩
    rw [← z1]
    conv => lhs; rw [e394_84, c_in (by omega) (by omega) (by omega), i32_ixn (by omega), w.rd (j := 191) rfl, n2, c2_ge (by omega) (by omega) (by omega) (by omega), c_f (by omega), e64, c_in (by omega) (by omega) (by omega), i32_ixn (by omega), e192, bI_ok a1, i32_up]
/-- a run begins -/
theorem rbegin_m (hRS : RSm D rg cd vd N G rr τ) (h20 : D.fc ≤ 20) (hlen : (rg.gl D.fc).length ≤ 60) (hm : ∀ k, k ∈ rg.gl D.fc → k < 64) (h27 : rd τ 123 27 = i32 (D.fc : Int)) (h119 : rd τ 123 119 = i32 (pgs : Int)) (h120 : rd τ 123 120 = i32 (wd : Int)) (h121 : rd τ 123 121 = i32 (ev : Int)) (h162 : rd τ 123 162 = i32 (mt : Int)) (v1 v2 v3 : Value) (d : Nat) :
    ∃ τ' : tvS, rn L xs (d + 2) 394 13 [.ref 123, v1, v2, v3] [] τ = some (.inl none, τ') ∧ RMm D rg cd vd N G rr wd pgs ev (mkL (stX D) 0 0 (rg.gl D.fc)) [(0, D.bP (D.fc + 1) - 1, 0)] 0 0 (rg.gl D.fc).length (mkF fn0 D.fc 0 (rg.gl D.fc)) (mkS (fun _ => (0, 0, 0), 0, 0, 0, 0) 0 (rg.gl D.fc)) 0 oa 0 mt τ' ∧ frM RAr RFl τ τ' := by
  obtain ⟨τ1, a1, a2, a3, a4, a5, a6, a7, a8⟩ := end_m (L := L) (xs := xs) (τ := τ) 1 d
  have a1 : rn L xs (d + 1) 395 0 [.ref 123, .int 1] [] τ = some (.inl none, τ1) := a1
  have e27 : rd τ1 123 27 = i32 (D.fc : Int) := by rw [a2.2 27 rfl]; exact h27
  obtain ⟨τ2, e2⟩ : ∃ τ2, τ2 = wr (wr (wr (wr (wr (wr (wr (wr (wr τ1 123 123 0) 123 124 0) 123 125 0) 123 126 0) 123 128 0) 123 129 0) 123 130 0) 123 164 0) 123 139 0 := ⟨_, rfl⟩
  obtain ⟨τ3, e3⟩ : ∃ τ3, τ3 = wr (wr τ2 215 0 (i32 (D.fc : Int))) 214 0 (i32 (-1)) := ⟨_, rfl⟩
  have w12 : frM [] [123, 124, 125, 126, 128, 129, 130, 164, 139] τ1 τ2 := by
    rw [e2]
    exact (frM_w rfl).trans ((frM_w rfl).trans ((frM_w rfl).trans ((frM_w rfl).trans ((frM_w rfl).trans ((frM_w rfl).trans ((frM_w rfl).trans ((frM_w rfl).trans (frM_w rfl))))))))
  have w23 : frM [214, 215] [] τ2 τ3 := by rw [e3]; exact (frM_wr rfl (by decide)).trans (frM_wr rfl (by decide))
  have w03 : frM [214, 215] [122, 123, 124, 125, 126, 127, 128, 129, 130, 131, 132, 135, 139, 144, 164] τ τ3 := (a2.sub rfl rfl).trans ((w12.sub rfl rfl).trans (w23.sub rfl rfl))
  have hRS3 : RSm D rg cd vd N G rr τ3 := hRS.fr w03 rfl rfl rfl
  have k3 : ∀ q, rd τ3 123 q = rd τ2 123 q := fun q => w23.2 q rfl
  have hF3 : MFr (stX D) 0 τ3 := by
    refine ⟨by rw [k3, e2, wr_self]; rfl, by rw [k3, w12.2 131 rfl, a7]; rfl, Nat.zero_le _, fun j hj => ?_⟩
    obtain rfl : j = 0 := by omega
    refine ⟨by rw [e3, wr_nek (by decide), wr_self]; rfl, ?_, fun e he h5 => absurd (show (5000 : Int) < 5000 from h5) (by decide), fun k hk h2 => absurd (show (2000 : Nat) < 2000 from h2) (by decide)⟩
    rw [e3, wr_self, if_neg (by show ¬ (0 : Int) ≤ -1; decide)]
  have c23 : ∀ q, q ≠ 139 → q ≠ 164 → rd τ2 123 q = rd (wr (wr (wr (wr (wr (wr (wr τ1 123 123 0) 123 124 0) 123 125 0) 123 126 0) 123 128 0) 123 129 0) 123 130 0) 123 q := fun q q1 q2 => by rw [e2, wr_nei q1, wr_nei q2]
  have hP3 : MPu fn0 ((fun _ => (0, 0, 0), 0, 0, 0, 0) : cSt) 0 (stX D).B (stX D).ser 0 τ3 := by
    refine ⟨⟨by rw [k3, w12.2 144 rfl, a5]; rfl, Nat.zero_le _, fun r hr => absurd hr (Nat.not_lt_zero r)⟩, .inl (by rw [k3, w12.2 122 rfl, a3]; rfl), ?_, ?_, ?_, ?_, ?_, ⟨?_, Nat.le_refl _⟩, ?_⟩
    · rw [k3, c23 123 (by decide) (by decide), wr_nei (by decide), wr_nei (by decide), wr_nei (by decide), wr_nei (by decide), wr_nei (by decide), wr_nei (by decide), wr_self]; rfl
    · rw [k3, c23 125 (by decide) (by decide), wr_nei (by decide), wr_nei (by decide), wr_nei (by decide), wr_nei (by decide), wr_self]; rfl
    · rw [k3, c23 126 (by decide) (by decide), wr_nei (by decide), wr_nei (by decide), wr_nei (by decide), wr_self]; rfl
    · rw [k3, w12.2 127 rfl, a6]; rfl
    · rw [k3, c23 128 (by decide) (by decide), wr_nei (by decide), wr_nei (by decide), wr_self]; rfl
    · rw [k3, c23 129 (by decide) (by decide), wr_nei (by decide), wr_self]; rfl
    · rw [k3, c23 130 (by decide) (by decide), wr_self]
  obtain ⟨τ4, v2', v3', z1, z2, z3, z4⟩ := gmm_loop (L := L) (xs := xs) (Xs := stX D) (fn0 := fn0) (s0 := ((fun _ => (0, 0, 0), 0, 0, 0, 0) : cSt)) hRS3 h20 hlen hm (by show 1 + 100 < 10000000; decide) d (rg.gl D.fc).length 0 τ3 (dj v3) (by omega) frM.refl hF3 hP3
  have w04 : frM [213, 214, 215, 216, 217, 218, 219, 220, 221] [122, 123, 124, 125, 126, 127, 128, 129, 130, 131, 132, 135, 139, 144, 164] τ τ4 := (w03.sub rfl rfl).trans (z4.sub rfl rfl)
  have hRS4 : RSm D rg cd vd N G rr τ4 := hRS.fr w04 rfl rfl rfl
  have hC4 : MCt [] τ4 := ⟨by rw [z4.2 135 rfl, k3, w12.2 135 rfl, a8]; rfl, trivial⟩
  obtain ⟨τ5, u1, u2, u3⟩ := plan_m (L := L) (xs := xs) hC4 (by decide) (0, D.bP (D.fc + 1) - 1, 0) d
  have u1 : rn L xs (d + 1) 397 0 [.ref 123, .int 0, .int (i32 ((D.bP (D.fc + 1) - 1 : Nat) : Int)), .int 0] [] τ4 = some (.inl none, τ5) := u1
  have e142 : rd τ4 142 D.fc = i32 ((D.bP (D.fc + 1) - 1 : Nat) : Int) := (hRS4.2.1 D.fc (Nat.le_refl _)).1.1
  obtain ⟨B1, B2, B3, B4, B5, B6⟩ := mkL_B (i := 0) (rg.gl D.fc) (stX D) 0
  have k5 : ∀ q, inL [135] q = false → inL [129, 144] q = false → rd τ5 123 q = rd τ3 123 q := fun q q1 q2 => by rw [u3.2 q q1, z4.2 q q2]
  refine ⟨τ5, ?_, ⟨hRS4.fr u3 rfl rfl rfl, u2, z2.fr u3 rfl rfl rfl rfl rfl rfl, ⟨⟨?_, Nat.zero_le _, fun k hk => absurd hk (Nat.not_lt_zero k)⟩, ⟨?_, ?_, Nat.zero_le _, fun o o1 o2 => ?_, fun o ⟨q, hq, _⟩ => absurd hq (Nat.not_lt_zero q), fun o o' ⟨q, hq, _⟩ => absurd hq (Nat.not_lt_zero q)⟩, z3.fr u3 ⟨rfl, rfl, rfl, rfl, rfl, rfl⟩ ⟨rfl, rfl, rfl, rfl, rfl, rfl, rfl, rfl, rfl⟩, ⟨?_, fun o o1 o2 => ?_⟩, ?_, ?_, ?_, ?_, ?_⟩, ?_⟩, (w04.sub rfl rfl).trans (u3.sub rfl rfl)⟩
  · rw [e394_13 (d + 1), bV_ok a1, e27, show ix (0 : Int32) = 0 from rfl, i32_raw, ← e2, ← e3]
    rw [show (0 : Int32) = i32 ((0 : Nat) : Int) from rfl, z1, e394_117 (d + 1), c_in (by omega) (by omega) (by omega), i32_ixn (by omega), e142]
    rw [bV_ok u1]
  · rw [k5 132 rfl rfl, k3, w12.2 132 rfl, a4]; rfl
  · rw [k5 124 rfl rfl, k3, c23 124 (by decide) (by decide), wr_nei (by decide), wr_nei (by decide), wr_nei (by decide), wr_nei (by decide), wr_nei (by decide), wr_self, B4]; rfl
  · rw [k5 164 rfl rfl, k3, e2, wr_nei (by decide), wr_self]; rfl
  · rw [B4] at o2; have o2 : o ≤ 0 := o2; omega
  · rw [k5 162 rfl rfl, w03.2 162 rfl]; exact h162
  · rw [B4] at o2; have o2 : o ≤ 0 := o2; omega
  · rw [B4]
    have := oSt.mk (s := ((fun _ => (0, 0, 0), 0, 0, 0, 0) : cSt)) (nr := 0) (wd := wd) (pgs := pgs) (no := 0) ⟨Nat.le_refl _, Nat.zero_le _, rfl, fun r hr => absurd hr (Nat.not_lt_zero r)⟩ (rg.gl D.fc)
    rw [Nat.zero_add] at this
    exact this
  · have : (mkS ((fun _ => (0, 0, 0), 0, 0, 0, 0) : cSt) 0 (rg.gl D.fc)).cp = 0 := congrArg (fun q => q.2.1) (mkS_2 (rg.gl D.fc) ((fun _ => (0, 0, 0), 0, 0, 0, 0) : cSt) 0)
    rw [this]; decide
  · rw [k5 119 rfl rfl, w03.2 119 rfl]; exact h119
  · rw [k5 120 rfl rfl, w03.2 120 rfl]; exact h120
  · rw [k5 121 rfl rfl, w03.2 121 rfl]; exact h121
  · rw [k5 122 rfl rfl, k3, w12.2 122 rfl, a3]; rfl
end MSTART
