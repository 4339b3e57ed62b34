/-! BETWEEN FUNCTIONS: signatures -/
section NEXTC
variable {σ τ σ' τ' τ1 σ2 τ2 : tvS} {K1 K2 Bc Bm f : Nat} {Rc Rm : Nat → Nat → Prop} {pd : List (Nat × List Nat × (Nat → Nat))} {n u a rc rl : Nat} {T T0 T1 T' T2 : tyJ} {D : pgD} {G : sgD} {m : Nat}
theorem nfil_get {mk : Nat → Prop} {N i : Nat} (hi : i < (nfil mk N).length) : ∃ k, k < N ∧ mk k ∧ (nfil mk N).getD i 0 = k + 1 := by
  have hm : (nfil mk N).getD i 0 ∈ nfil mk N := by
    rw [List.getD_eq_getElem?_getD, List.getElem?_eq_getElem hi]; exact List.getElem_mem hi
  obtain ⟨k, k1, k2, k3⟩ := (nfil_mem N).mp hm
  exact ⟨k, k1, k2, k3⟩
theorem REC.olf {n0 fst kc0 rf cf0 kf0 Bm' : Nat} {pe0 : Nat → Nat} {bl R : List Nat} {ow : Nat → Int} {pe pt by' : Nat → Nat} {kc cf kg : Nat} {kf gf gk : Nat → Nat} (hF : PGF D m) (hf : f ≤ D.fc) (hI : TYI K1 K2 Bc Bm f Rc Rm D G rl (D.bP (f + 1)) (D.bP (f + 1)) n u a pd rc T1 σ τ1) (hd : ∀ q, D.bP f ≤ q → q < D.bP (f + 1) → D.K q = 3 → D.vl q < f → ∃ n1 : Nat, rd τ1 181 q = i32 (n1 : Int) ∧ n1 < 60000) (hg : GHO D G f (D.bP (f + 1)) (D.bP (f + 1)) T0 T1 σ) (h : REC D G K1 K2 f n0 fst kc0 rf cf0 kf0 pe0 Bm' T1 T' T2 bl R ow pe pt by' kc cf kg kf gf gk σ τ1 σ' τ' σ2 τ2) (hrf : ∀ g, g < f → G.rf g + G.ng g ≤ rf) (hrf2 : rf + 60 < 2048) (hV : ∀ g, g < f → D.tV g + D.bk g ≤ D.tV f) :
    OLF D (sgN G f (nfil (fun k => ow k = -1) bl.length).length rf (XCn D f bl ow σ) (XMn D f R ow τ1)) (f + 1) T2.1.1 T2.2.1.1 (fun g => if g = f then RSg (yG T2) (yC T2) (yH T2) (SGb D f (vT σ) (rT σ f)) else Rc g) (fun g => if g = f then RSg T2.2.1.2.1 T2.2.1.2.2.1 T2.2.1.2.2.2.1 (SGb D f (vM τ1) (rM τ1 f)) else Rm g) T2 σ2 τ2 ∧ (nfil (fun k => ow k = -1) bl.length).length ≤ 24 ∧ (∀ k, k < bl.length → ow k = -1 → 2 ≤ (yG T1).1 (yC T1 (bl.getD k 0))) := by
  have hT := hI.1
  have hb4 := hF.1
  have hPf := hF.2.2 f hf
  have hex := h.ex hI
  obtain ⟨r1, r2, _, _, r5, _⟩ := hI.reg hF hf hd
  obtain ⟨_, hR, hOL, _, _⟩ := id hI
  have hRf := hR.1 f hf
  have hO0 := hOL.ex hex
  obtain ⟨hO, _, hJ0, ⟨e1, e2, e3, e4⟩, ⟨m1, m2, m3, m4⟩, e5, hEc, ⟨nb, hEm⟩, ⟨⟨A, U, Hh, hA, hU, hH, hMC, hMM, _⟩, _⟩⟩ := h
  obtain ⟨_, _, _, _, _, _, ⟨l60, llen, hNM, hBX, hNU, _⟩, _, _, how, h76, frc, _, _, _, _, _, ⟨ebl, eR, _⟩, frx⟩ := hO
  obtain ⟨_, _, _, _, _, _, ⟨c71, c72, co, cRG⟩, _, _, ftl, _⟩ := hEc
  obtain ⟨kN, k190, k195, ko195, koth, _, _, _, _, _, ftm⟩ := hEm
  have gM : ∀ x, T1.2.1.2.2.1 (T1.2.1.2.2.1 x) = T1.2.1.2.2.1 x := by
    obtain ⟨_, _, _, h6, _⟩ := hT.1.2.1
    exact h6.1
  have gC := hT.c0.2.2.1
  have hv1 : ∀ v, D.tV f ≤ v → v < D.tV (f + 1) → _ := fun v h1 h2 => (hI.2.2.2.2.2.1 v (hPf.tv h1 h2)).nat hT
  have hlt2 := hPf.1.2.1
  have hRm2 : ROOM K1 K2 σ2 := by
    obtain ⟨_, _, _, _, _, _, h5, _⟩ := hJ0.1
    exact h5
  have l73 := hRm2.le (k := 73) (M := 2048) (by decide)
  have ec : ∀ j, inL FRC j = false → inL FTL j = false → ∀ i, rd σ2 j i = rd σ j i := fun j h1 h2 i => by rw [ftl.1 j h2, frc.1 j h1]
  have em : ∀ j, inL (123 :: FRX) j = false → inL (123 :: FTM) j = false → ∀ i, rd τ2 j i = rd τ1 j i := fun j h1 h2 i => by rw [ftm.rd h2, frx.rd h1]
  have hrch := fun (k : Nat) (hk : k < bl.length) (ho : ow k = -1) => given_reached (T' := T') hF hf hg ebl eR hNM hT.1.2.2.1 gM r5.2.2.2 (fun i k e he hn => (h76 i k e he hn).2) hk ho
  have hnd : (bl.map (yC T1)).Nodup := by rw [ebl]; exact bxL_nodup _ _ List.nodup_nil
  have ev : vT σ2 = vT σ := by funext q; unfold vT; rw [ec 67 rfl rfl]
  have er : rT σ2 f = rT σ f := by unfold rT; rw [ec 68 rfl rfl]
  have hng : (nfil (fun k => ow k = -1) bl.length).length ≤ 24 := by
    rw [ev, er, e2, e3, e4] at hMC
    exact Nat.le_trans (given_len hMC gC.1 hnd hrch) hA
  refine ⟨fun g hgf => ?_, hng, fun k hk ho => (hrch k hk ho).2⟩
  by_cases c : g = f
  · subst c
    have n1 : (sgN G g (nfil (fun k => ow k = -1) bl.length).length rf (XCn D g bl ow σ) (XMn D g R ow τ1)).ng g = (nfil (fun k => ow k = -1) bl.length).length := if_pos rfl
    have n2 : (sgN G g (nfil (fun k => ow k = -1) bl.length).length rf (XCn D g bl ow σ) (XMn D g R ow τ1)).rf g = rf := if_pos rfl
    have n3 : (sgN G g (nfil (fun k => ow k = -1) bl.length).length rf (XCn D g bl ow σ) (XMn D g R ow τ1)).XC g = XCn D g bl ow σ := if_pos rfl
    have n4 : (sgN G g (nfil (fun k => ow k = -1) bl.length).length rf (XCn D g bl ow σ) (XMn D g R ow τ1)).XM g = XMn D g R ow τ1 := if_pos rfl
    rw [n1, n2, n3, n4]
    have x1 : ∀ k, k < D.bk g → XCn D g bl ow σ k = vT σ (D.tV g + k) ∧ XMn D g R ow τ1 k = vM τ1 (D.tV g + k) := fun k hk => ⟨if_pos hk, if_pos hk⟩
    have x2 : XCn D g bl ow σ (D.bk g) = rT σ g ∧ XMn D g R ow τ1 (D.bk g) = rM τ1 g := by
      unfold XCn XMn
      rw [if_neg (Nat.lt_irrefl _), if_neg (Nat.lt_irrefl _), if_pos rfl, if_pos rfl]; exact ⟨rfl, rfl⟩
    have x3 : ∀ k, XCn D g bl ow σ (D.bk g + 1 + k) = nfT bl (nfil (fun k => ow k = -1) bl.length) k ∧ XMn D g R ow τ1 (D.bk g + 1 + k) = nfT R (nfil (fun k => ow k = -1) R.length) k := fun k => by
      unfold XCn XMn
      rw [if_neg (by omega), if_neg (by omega), if_neg (by omega), if_neg (by omega), show D.bk g + 1 + k - (D.bk g + 1) = k by omega]; exact ⟨rfl, rfl⟩
    have htv : D.tV g + D.bk g ≤ 3000 := by
      have hle : ∀ j h, h + j = D.fc + 1 → D.tV h ≤ D.tV (D.fc + 1) := by
        intro j
        induction j with
        | zero => intro h e; rw [show h = D.fc + 1 by omega]; exact Nat.le_refl _
        | succ j ih => intro h e; exact Nat.le_trans (by have := (hF.2.2 h (by omega)).1.2.1; omega) (ih (h + 1) (by omega))
      have := hle (D.fc - g) (g + 1) (by omega)
      omega
    refine ⟨⟨by omega, by rw [ec 44 rfl rfl]; exact hRf.1.1, by rw [ec 45 rfl rfl]; exact hRf.1.2.1, by omega, fun k hk => ?_, ?_, c72, c71, cRG.2.1, l73, fun k hk => ?_⟩, ⟨by omega, by rw [em 140 rfl rfl]; exact hRf.2.1.1, by rw [em 141 rfl rfl]; exact hRf.2.1.2.1, by omega, fun k hk => ?_, ?_, ?_, by omega, fun k hk => ?_⟩, hng, fun i hi => ?_⟩
    · rw [ec 67 rfl rfl, (x1 k hk).1]; exact (hv1 _ (by omega) (by omega)).1
    · rw [ec 68 rfl rfl, x2.1]; exact r1.2.2.1
    · rw [cRG.2.2 (rf + k) (by omega), (x3 k).1]
      show (if rf + k < rf then _ else _) = _
      rw [if_neg (by omega), show rf + k - rf = k by omega]
    · rw [em 179 rfl rfl, (x1 k hk).2]; exact (r2.2.1 _ (by omega) (by omega)).1
    · rw [em 180 rfl rfl, x2.2]; exact r2.2.2.1
    · rw [kN.1, llen]
    · rw [llen] at hk
      obtain ⟨q, q1, q2, q3⟩ := nfil_get hk
      refine ⟨q + 1, by omega, by rw [kN.2.1 k hk, q3], ?_⟩
      have hx : R[q]? = some (R.getD q 0) := by rw [List.getD_eq_getElem?_getD, List.getElem?_eq_getElem q1]; rfl
      have := (kN.2.2 q _ q1 hx).1
      rw [show 64 * g + (q + 1) = 64 * g + q + 1 by omega, this, (x3 k).2]
      unfold nfT
      rw [q3]; rfl
    · by_cases q1 : i < D.bk g
      · have z := hv1 (D.tV g + i) (by omega) (by omega)
        rw [(x1 i q1).1, (x1 i q1).2, e1, e5, m1]
        refine ⟨z.2.2.2.2.1, ⟨z.2.1, (r2.2.1 _ (by omega) (by omega)).2⟩, ?_, ?_⟩
        · simp only [if_pos]
          exact ⟨hJ0.plc.1 _, (RQ.base (.inr ⟨i, q1, rfl⟩)).cl (hJ0.plc.1 _).symm⟩
        · simp only [if_pos]
          exact ⟨hJ0.plm.1 _, (RQ.base (.inr ⟨i, q1, rfl⟩)).cl (hJ0.plm.1 _).symm⟩
      · by_cases q2 : i = D.bk g
        · subst q2
          rw [x2.1, x2.2, e1, e5, m1]
          refine ⟨r5.2.2.1, ⟨r1.2.2.2, r2.2.2.2⟩, ?_, ?_⟩
          · simp only [if_pos]
            exact ⟨hJ0.plc.1 _, (RQ.base (.inl rfl)).cl (hJ0.plc.1 _).symm⟩
          · simp only [if_pos]
            exact ⟨hJ0.plm.1 _, (RQ.base (.inl rfl)).cl (hJ0.plm.1 _).symm⟩
        · obtain ⟨j, rfl⟩ : ∃ j, i = D.bk g + 1 + j := ⟨i - (D.bk g + 1), by omega⟩
          have hj : j < (nfil (fun k => ow k = -1) bl.length).length := by omega
          obtain ⟨q, q1, q2, q3⟩ := nfil_get hj
          have hxb : bl[q]? = some (bl.getD q 0) := by rw [List.getD_eq_getElem?_getD, List.getElem?_eq_getElem q1]; rfl
          have hxR : R[q]? = some (R.getD q 0) := by rw [List.getD_eq_getElem?_getD, List.getElem?_eq_getElem (by rw [← llen]; exact q1)]; rfl
          have y1 : nfT bl (nfil (fun k => ow k = -1) bl.length) j = bl.getD q 0 := by unfold nfT; rw [q3]; rfl
          have y2 : nfT R (nfil (fun k => ow k = -1) R.length) j = R.getD q 0 := by unfold nfT; rw [← llen, q3]; rfl
          rw [(x3 j).1, (x3 j).2, y1, y2, e1, e5, m1]
          have hz := hNM.2 q _ _ hxb hxR
          have hlt := hT.1.2.2.2.2.1 _ _ hz
          refine ⟨hz, hlt, ?_, ?_⟩
          · simp only [if_pos]
            refine ⟨hJ0.plc.1 _, ?_⟩
            have := (hrch q q1 q2).1
            rw [← e2, ← e3, ← e4] at this
            exact this.cl (hJ0.plc.1 _).symm
          · simp only [if_pos]
            refine ⟨hJ0.plm.1 _, ?_⟩
            -- reached on the model's side, by mates
            have hr1 := (hrch q q1 q2).1
            have hk2 := (hrch q q1 q2).2
            rw [← e2, ← e3, ← e4] at hr1
            have jz := hJ0.2.2
            have kh : ∀ x u, yH T2 (yC T2 x) u → (yG T2).1 (yC T2 x) ≠ 1 := fun x u k => by
              obtain ⟨hl', hv', h1, _, h3, _, _, h6, h7, h8⟩ := hJ0.1
              rw [show yH T2 = hC hl' hv' from h8] at k
              obtain ⟨w, w1, _⟩ := k
              have hne : hl' (yC T2 x) ≠ [] := fun q => by rw [q] at w1; cases w1
              by_cases q : yC T2 x < T2.1.1
              · have := h3 _ q (h6.1 x) hne
                rw [show (yG T2).1 (yC T2 x) = 4 from this]; decide
              · exact absurd (h7 _ (by omega)) hne
            rcases RQ.zz jz.1 hJ0.plc.1 jz.2.1.1 kh (B' := SGb D g (vM τ1) (rM τ1 g)) (fun b hb => by
              rcases hb with e | ⟨k, k1, e⟩
              · exact ⟨_, .inl rfl, by rw [e, e5]; exact r5.2.2.1⟩
              · exact ⟨_, .inr ⟨k, k1, rfl⟩, by rw [e, e5]; exact (hv1 _ (by omega) (by omega)).2.2.2.2.1⟩) hr1 with hh | ⟨y, y1, y2⟩
            · have hh : (yG T2).1 (yC T2 (bl.getD q 0)) = 1 := hh
              rw [e2, e3] at hh; omega
            · have hz2 : T2.2.2 (bl.getD q 0) (R.getD q 0) := by rw [e5]; exact hz
              have := (jz.1.1 _ _ _ _ y1 hz2).mp rfl
              exact y2.cl (this.trans (hJ0.plm.1 _).symm)
  · have hgf' : g < f := by omega
    obtain ⟨⟨a1, a2, a3, a4, a5, a6, a7, a8, a9, a10, a11⟩, ⟨b1, b2, b3, b4, b5, b6, b7, b8, b9⟩, h24, hx⟩ := hO0 g hgf'
    have n1 : (sgN G f (nfil (fun k => ow k = -1) bl.length).length rf (XCn D f bl ow σ) (XMn D f R ow τ1)).ng g = G.ng g := if_neg c
    have n2 : (sgN G f (nfil (fun k => ow k = -1) bl.length).length rf (XCn D f bl ow σ) (XMn D f R ow τ1)).rf g = G.rf g := if_neg c
    have n3 : (sgN G f (nfil (fun k => ow k = -1) bl.length).length rf (XCn D f bl ow σ) (XMn D f R ow τ1)).XC g = G.XC g := if_neg c
    have n4 : (sgN G f (nfil (fun k => ow k = -1) bl.length).length rf (XCn D f bl ow σ) (XMn D f R ow τ1)).XM g = G.XM g := if_neg c
    rw [n1, n2, n3, n4]
    have hr := hrf g hgf'
    refine ⟨⟨a1, by rw [ec 44 rfl rfl]; exact a2, by rw [ec 45 rfl rfl]; exact a3, a4, fun k hk => by rw [ec 67 rfl rfl]; exact a5 k hk, by rw [ec 68 rfl rfl]; exact a6, ?_, ?_, ?_, l73, fun k hk => ?_⟩, ⟨b1, by rw [em 140 rfl rfl]; exact b2, by rw [em 141 rfl rfl]; exact b3, b4, fun k hk => by rw [em 179 rfl rfl]; exact b5 k hk, by rw [em 180 rfl rfl]; exact b6, ?_, b8, fun k hk => ?_⟩, h24, fun i hi => ?_⟩
    · rw [(co g c).2, frc.1 72 rfl]; exact a7
    · rw [(co g c).1, frc.1 71 rfl]; exact a8
    · have := cRG.2.1; omega
    · rw [cRG.2.2 _ (by omega)]
      show (if G.rf g + k < rf then _ else _) = _
      rw [if_pos (by omega), frc.1 73 rfl]; exact a11 k hk
    · rw [(koth.1 g c).2, frx.rd (j := 191) rfl]; exact b7
    · obtain ⟨q, q1, q2, q3⟩ := b9 k hk
      refine ⟨q, q1, ?_, ?_⟩
      · rw [(koth.2 g k c (by omega)).1, frx.rd (j := 192) rfl]; exact q2
      · rw [(koth.2 g q c q1).2.1, frx.rd (j := 193) rfl]; exact q3
    · obtain ⟨z1, z2, z3, z4⟩ := hx i hi
      have zl := hJ0.2.2.2.2.1 _ _ z1
      refine ⟨z1, zl, ?_, ?_⟩
      · simp only [if_neg c]; exact z3
      · simp only [if_neg c]; exact z4
end NEXTC
