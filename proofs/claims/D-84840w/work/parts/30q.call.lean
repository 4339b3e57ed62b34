/-! READING: calls -/
section CALL3
variable {L : Nat} {xs : Nat → Int32} {K1 K2 m : Nat} {μ : Nat → Nat} {g fc : Nat} {sc : List Nat} {fs fs' : List (Nat × Nat × List Nat)} {F D H n A P r r0 : Nat} {σ τ σ' τ' σ1 τ1 : tvS}
theorem ST.core (h : ST K1 K2 m μ g fc sc fs D H n A P r σ τ) : ∃ F V S, CORE K1 K2 m μ g fc sc fs F A P r σ τ ∧ FNC m g fc σ τ ∧ VARS m V σ τ ∧ SCP V S sc σ τ ∧ V ≤ A ∧ F ≤ 1001 ∧ rd σ 15 19 = i32 V ∧ rd τ 123 36 = i32 V := by
  have hm := h.all.1.1
  have hA := h.all.2.2.2.2.2.2.1.2.2.2.2.2.2.2.1
  obtain ⟨F, ⟨hc, _, _⟩, hF, _⟩ := h
  have hc' := hc
  obtain ⟨V, S, C, q, cp, a1, a2, a3, ⟨a5, a6, a7, a8⟩, a9, a10, a12, a13, a14, a15, _⟩ := hc
  exact ⟨F, V, S, hc', a13, a14, a15, a7, by omega, a5, a6⟩
/-- a name at hand is looked up by the model -/
theorem ST.mvar (h : ST K1 K2 m μ g fc sc fs D H n A P r σ τ) {k : Nat} (hk : k < m) (hμ : μ k = 1) (d : Nat) : rn L xs (d + 1) 305 0 [.ref 123, .int (rd τ 129 k), jv] [] τ = some (.inl (some (.int (vRes (sc.find? fun v => decide (rl σ 29 v = rl σ 12 k))))), τ) := by
  obtain ⟨o1, o2, _, _, _, _, ⟨_, _, _, _, _, _, _, s8, _⟩, o8, _⟩ := h.all
  obtain ⟨F, V, S, c1, c2, c3, c4, c5, _⟩ := h.core
  exact mvar_ok o1 c3 c4 (by omega) d ⟨k, hk, by rw [o2]; exact hμ, rfl, rfl⟩
theorem ST.mfun (h : ST K1 K2 m μ g fc sc fs D H n A P r σ τ) {k : Nat} (hk : k < m) (hμ : μ k = 1) (d : Nat) : rn L xs (d + 1) 302 0 [.ref 123, .int (rd τ 129 k), jv] [] τ = some (.inl (some (.int (vRes (fIx (fun f => decide (rl σ 42 f = rl σ 12 k)) (min (g + 1) fc) 0)))), τ) := by
  obtain ⟨o1, o2, _⟩ := h.all
  obtain ⟨F, V, S, c1, ⟨b1, b2, b3, b4, b5, b6, b7⟩, _⟩ := h.core
  exact mfun_ok o1 b6 b5 b2 b3 d ⟨k, hk, by rw [o2]; exact hμ, rfl, rfl⟩
set_option maxHeartbeats 4000000 in
theorem call_ok {B f d : Nat} (hE : NT L xs K1 K2 m μ g fc 1 119 0 0 [jv] B) (h : ST K1 K2 m μ g fc sc fs D H (n + 1) A P r σ τ) (hX : rd τ 132 n = i32 13) (hμ : μ A = 1) (hv : (sc.find? fun v => decide (rl σ 29 v = rl σ 12 A)) = none) (hf : fIx (fun f => decide (rl σ 42 f = rl σ 12 A)) (min (g + 1) fc) 0 = some f) (hB : m - A ≤ B) (hn : n ≤ 8 * A + 6) (hd : 12 * (40 - D) + 20 + 4 ≤ d) :
    OUTI L xs K1 K2 τ (rn L xs d 135 0 [.ref 62, .int (i32 f), jv, jv, jv, jv, jv, jv, jv] [] σ) (NTQ K1 K2 m μ g fc sc fs D H n r A P σ τ) := by
  obtain ⟨d, rfl⟩ : ∃ d', d = d' + 5 := ⟨d - 5, by omega⟩
  obtain ⟨o1, o2, o3, o4, ⟨o5, o5'⟩, o6, ⟨s1, s2, s3, s4, s5, s6, s7, s8, s9, s10, s11, s12⟩, o8, o9, o10⟩ := h.all
  have hlt := h.lt (by omega)
  have hws := wch_succ μ A
  have hu : uch (μ A) = 1 := by rw [hμ]; rfl
  have hws1 : wch μ (A + 2) = wch μ (A + 1) + uch (μ (A + 1)) + ach μ (A + 1) := wch_succ μ (A + 1)
  have hfl := fIx_lt _ _ _ hf
  have hg20 : g ≤ 20 ∧ fc ≤ 20 := by
    obtain ⟨F, V, S, c1, ⟨b1, b2, b3, b4, b5, b6, b7⟩, _⟩ := h.core
    exact ⟨b3, b6.1⟩
  have hpop := h.pop
  have hst1 := hpop.at1 hlt
  have p17 : rd (wr τ 123 18 (i32 n)) 123 17 = i32 A := by rw [rd_wr, if_neg (by omega)]; exact s2
  have hname : ∀ (τe : tvS), (∀ dm, bI (rn L xs (dm + 5) 303 0 [.ref 123, .int 24] [] (wr (wr τ 123 18 (i32 n)) 123 17 (i32 (A + 1 : Nat)))) (fun a2 s1 => cond (pv_c1 .eq a2) (some (.inl none, s1)) (bV (rn L xs (dm + 5) 309 0 [.ref 123, .int 32, .int (i32 A), .int 1] [] s1) (fun s3 => bV (rn L xs (dm + 5) 309 0 [.ref 123, .int 1, .int 0, .int 0] [] s3) (fun s4 => some (.inl none, s4)) X0) X0)) X0 = some (.inl none, τe)) → mS L xs τ τe := by
    intro τe he
    refine nx s6 (by omega) o3 ⟨hX, rfl, rfl⟩ (pc := 297) (by decide +kernel) (fun dm => ?_)
    have e315 : rn L xs (dm + 6) 315 0 [.ref 123, jv, jv, jv, jv] [] (wr τ 123 18 (i32 n)) = some (.inl none, τe) := by
      rw [e315_0 (dm + 5), p17, c_in (by omega) (by omega) (by omega), i32_ixn (by omega), bI_ok (hpop.mvar hlt hμ (dm + 4)), hv]
      show cond (pv_c2 .eq (i32 (-1)) (i32 (-1))) _ _ = _
      rw [c2_refl, e315_66 (dm + 5), bI_ok (hpop.mfun hlt hμ (dm + 4)), hf]
      show cond (pv_c2 .ne (i32 (f : Int)) (i32 (-1))) _ _ = _
      rw [c2_ne (by omega) (by omega) (by omega) (by omega), c_t (by omega), e315_92 (dm + 5), p17, i32_n1]
      simp only [e315_133]
      exact he dm
    rw [e310_297 (dm + 7), bV_ok (r := rn L xs (dm + 7) 312 0 _ _ _) (σ := τe), e310_362]
    rw [e312_0 (dm + 6), bI_ok (hpop.mk (dm + 5)), hμ, swk_of (p := 163) (by decide +kernel), e312_163 (dm + 6), bV_ok e315, e312_246]
  rw [e135_0 (d + 4), s1, s5, i32_n1]
  have hms := hst1.ms (L := L) (xs := xs) (x := 40) (k := 24) rfl (by omega) (by omega) d
  by_cases q : μ (A + 1) = 24
  · rw [if_pos q] at hms
    rw [bV_ok hms]
    have hlt1 := hst1.lt (by omega)
    have hmS : mS L xs τ (mPush (mPush (wr (wr (wr τ 123 18 (i32 n)) 123 17 (i32 (A + 1 : Nat))) 123 17 (i32 (A + 1 + 1 : Nat))) n 32 (i32 A) 1) (n + 1) 1 0 0) := by
      refine hname _ (fun dm => ?_)
      have ht := hst1.take (L := L) (xs := xs) (x := 24) (k := 24) rfl (by omega) (dm + 3)
      rw [if_pos q] at ht
      rw [bI_ok ht, show pv_c1 .eq (1 : Int32) = false from rfl, cond_false, bV_ok (mpush_ok (n := n) (by rw [rd_wr, if_neg (by omega), rd_wr, if_neg (by omega), rd_wr, if_pos ⟨rfl, rfl⟩]) (by omega) (dm + 4) _ _ _), bV_ok (mpush_ok (n := n + 1) mPush_come (by omega) (dm + 4) _ _ _)]
    refine OUTI.pre hmS ?_
    have h2 := ((hst1.at1 hlt1).push (by omega) 32 (i32 A) 1).push (by omega) 1 0 0
    have hold2 : OLD n r H P σ τ (wr (wr σ 62 3 (i32 (A + 1 : Nat))) 62 3 (i32 (A + 1 + 1 : Nat))) (mPush (mPush (wr (wr (wr τ 123 18 (i32 n)) 123 17 (i32 (A + 1 : Nat))) 123 17 (i32 (A + 1 + 1 : Nat))) n 32 (i32 A) 1) (n + 1) 1 0 0) := (((((((OLD.refl.wrC (Or.inl rfl)).wrC (Or.inl rfl)).wrM (by omega)).wrM (by omega)).wrM (by omega)).push (by omega)).push (by omega))
    have i1 : IT (mPush (mPush (wr (wr (wr τ 123 18 (i32 n)) 123 17 (i32 (A + 1 : Nat))) 123 17 (i32 (A + 1 + 1 : Nat))) n 32 (i32 A) 1) (n + 1) 1 0 0) (n + 1) 1 0 0 := IT.at rfl
    have i2 : IT (mPush (mPush (wr (wr (wr τ 123 18 (i32 n)) 123 17 (i32 (A + 1 : Nat))) 123 17 (i32 (A + 1 + 1 : Nat))) n 32 (i32 A) 1) (n + 1) 1 0 0) n 32 (i32 A) (i32 (0 + 1 : Nat)) := (IT.at rfl).push (by omega)
    generalize mPush (mPush (wr (wr (wr τ 123 18 (i32 n)) 123 17 (i32 (A + 1 : Nat))) 123 17 (i32 (A + 1 + 1 : Nat))) n 32 (i32 A) 1) (n + 1) 1 0 0 = τ2 at h2 hold2 i1 i2
    have rl2 : ∀ j i, rl (wr (wr σ 62 3 (i32 (A + 1 : Nat))) 62 3 (i32 (A + 1 + 1 : Nat))) j i = rl σ j i := fun _ _ => rfl
    generalize wr (wr σ 62 3 (i32 (A + 1 : Nat))) 62 3 (i32 (A + 1 + 1 : Nat)) = σ2 at h2 hold2 rl2
    have hloop := arg_loop (P := P) hE (f := f) (d := d + 4) hlt hB hn s10 (by omega) (m - (A + 2) + 1) 0 (A + 2) P [] σ2 τ2 (dj jv) (dj jv) (dj jv) (dj jv) (by omega) h2 i2 i1.1 rfl ⟨rfl, fun w c hw => by simp at hw⟩ RF.none (fun w c s' hw => by simp at hw) (by omega) (by omega)
    rcases hloop with ⟨k', A2, P2, kl, σ3, τ3, w4, w5, w6, w7, w8, z1, z2, z3, z4, z5, z6, z7, ⟨z8, zR, zS⟩, z9, z10, z11, z12⟩ | hF
    · rw [z1]
      refine OUTI.pre z2 ?_
      have hold3 : OLD n r H P σ τ σ3 τ3 := hold2.trans z12 (Nat.le_refl _) (Nat.le_refl _) (Nat.le_refl _) (Nat.le_refl _)
      obtain ⟨p1, p2, p3, p4, ⟨p5, p5'⟩, p6, ⟨r1, r2, r3, r4, r5, r6, r7, r8, r9, r10, r11, r12⟩, p8, p9, p10⟩ := z3.all
      have hpop3 := z3.pop
      have hws2 := wch_succ μ A2
      have hms3 := z3.ms (L := L) (xs := xs) (x := 41) (k := 25) rfl (by omega) (by omega) d
      have rl3 : ∀ j i, j ≠ 29 → rl σ3 j i = rl σ j i := fun j i hj => hold3.2.2.2.2.2.2.1 j hj i
      have hf3 : fIx (fun f => decide (rl σ3 42 f = rl σ3 12 A)) (min (g + 1) fc) 0 = some f := by
        rw [← hf]
        congr 1
        funext f
        rw [rl3 42 f (by omega), rl3 12 A (by omega)]
      by_cases q2 : μ A2 = 25
      · rw [if_pos q2] at hms3
        have hlt2 := z3.lt (by omega)
        have hst4 := hpop3.at1 hlt2
        have hkv : A2 + 1 - 1 = A2 := by omega
        obtain ⟨F3, V3, S3, c1, c2, c3, c4, c5, c6, c7⟩ := z3.core
        have hpar := c2.2.2.2.2.2.2 f (by omega)
        have e47 : ∀ (τe : tvS), (∀ dm, cond (pv_c2 .eq (i32 (k' : Int)) (rd σ3 44 f)) (rn L xs (dm + 7) 322 80 [.ref 123, .int (i32 A), .int (i32 k'), .int (i32 f), jv, jv] [] (wr (wr τ3 123 18 (i32 n)) 123 17 (i32 (A2 + 1 : Nat)))) (bV (rn L xs (dm + 6) 291 0 [.ref 123, .int 4, .int (rd τ3 127 A)] [] (wr (wr τ3 123 18 (i32 n)) 123 17 (i32 (A2 + 1 : Nat)))) (fun s3 => some (.inl none, s3)) X0) = some (.inl none, τe)) → mS L xs τ3 τe := by
          intro τe he
          refine nx r6 (by omega) p3 z4 (pc := 346) (by decide +kernel) (fun dm => ?_)
          have ht := hpop3.take (L := L) (xs := xs) (x := 25) (k := 25) rfl (by omega) (dm + 4)
          rw [if_pos q2] at ht
          have e140 : rd (wr (wr τ3 123 18 (i32 n)) 123 17 (i32 (A2 + 1 : Nat))) 140 f = rd σ3 44 f := by rw [wr_nek (by omega), wr_nek (by omega)]; exact hpar
          have e127 : rd (wr (wr τ3 123 18 (i32 n)) 123 17 (i32 (A2 + 1 : Nat))) 127 A = rd τ3 127 A := by rw [wr_nek (by omega), wr_nek (by omega)]
          rw [e310_346 (dm + 7), bV_ok (r := rn L xs (dm + 7) 322 0 _ _ _) (σ := τe), e310_362]
          rw [e322_0 (dm + 6), bI_ok (hpop3.mk (dm + 5)), mcondn (x := 26) (y := 26) rfl hpop3.mu36 (by omega), if_neg z5, e322_37 (dm + 6), bI_ok ht, show pv_c1 .ne (1 : Int32) = true from rfl, cond_true, e322_47 (dm + 6), c_in (by omega) (by omega) (by omega), i32_ixn (by omega), bI_ok (hst4.mfun hlt hμ (dm + 5))]
          rw [show rl (wr σ3 62 3 (i32 (A2 + 1 : Nat))) = rl σ3 from rfl, hf3]
          rw [show vRes (some f) = i32 (f : Int) from rfl, c_in (by omega) (by omega) (by omega), i32_ixn (by omega), e140, c_in (by omega) (by omega) (by omega), e127]
          exact he dm
        rw [e135_53 (d + 4), bV_ok hms3, c_in (by omega) (by omega) (by omega), i32_ixn (by omega)]
        have e11 : rd (wr σ3 62 3 (i32 (A2 + 1 : Nat))) 62 11 = i32 (H + k' : Nat) := by rw [rd_wr, if_neg (by omega)]; exact r5
        have e44 : rd (wr σ3 62 3 (i32 (A2 + 1 : Nat))) 44 f = rd σ3 44 f := wr_nek (by omega)
        rw [e11, e44, i32_sn (by omega), show H + k' - H = k' by omega]
        by_cases q3 : i32 (k' : Int) = rd σ3 44 f
        · -- the call is a part
          rw [← q3, c2_refl, e135_87 (d + 4)]
          have f62 : rd (wr σ3 62 3 (i32 (A2 + 1 : Nat))) 62 3 = i32 (A2 + 1 : Nat) := by rw [rd_wr, if_pos ⟨rfl, rfl⟩]
          rw [f62, i32_s1 (by omega), hkv, bI_ok (cnew_ok (P := P2) ((wr_nek (by omega)).trans p5) (by omega) (d + 3) 3 _ _ _), c_in (by omega) (by omega) (by omega), i32_ixn (by omega)]
          have hAR4 : ARGS kl P P2 H r (wr σ3 62 3 (i32 (A2 + 1 : Nat))) τ3 := by
            refine ⟨z8.1.congr _ _ _ (fun i _ => wr_nek (by omega)), fun w c hw => ?_⟩
            obtain ⟨y1, y2, y3, y4, y5⟩ := z8.2 w c hw
            exact ⟨(wr_nek (by omega)).trans y1, y2, (wr_nek (by omega)).trans y3, (wr_nek (by omega)).trans y4, ((wr_nek (by omega)).trans y5).trans (by rw [rd_wr, if_neg (by omega)])⟩
          have hkl0 : kl ≠ [] := fun e => by rw [e] at z6; have : (0 : Nat) = k' := z6; omega
          have hs5 : rd (wr σ3 62 3 (i32 (A2 + 1 : Nat))) 62 5 = rd σ3 62 5 := by rw [rd_wr, if_neg (by omega)]
          rw [hs5]
          obtain ⟨σ5, y1, y2⟩ := ccall_loop (L := L) (xs := xs) (A := A) (l := i32 A2) (s := rd σ3 62 5) (fn := i32 f) hAR4 (by omega) (by omega) hkl0 (d + 2) kl [] _ (.int (i32 f)) (dj (jk (dj w4))) (dj (dj w8)) P2 rfl nodK.zero (fun _ => rfl) (fun e => absurd rfl e)
          rw [z6] at y1
          have e62 : ∀ i, rd σ5 62 i = rd (wr σ3 62 3 (i32 (A2 + 1 : Nat))) 62 i := fun i => y2.1 62 i (by omega) (by omega) (by omega)
          rw [e62 3, f62, i32_s1 (by omega), hkv] at y1
          have hrun : ∃ τ5, mS L xs τ3 (wr (wr (wr (wr τ5 135 r (i32 P2)) 136 r (i32 A)) 137 r (i32 A2)) 123 22 (i32 (r + 1 : Nat))) ∧ ∃ q0 : Nat, rd τ3 123 60 = i32 q0 ∧ q0 + (r + k') ≤ P2 ∧ nodL (wr (wr τ3 123 18 (i32 n)) 123 17 (i32 (A2 + 1 : Nat))) τ5 P2 q0 r (i32 A) (i32 A2) (i32 f) (i32 k') P kl := by
            obtain ⟨V, S, C, q0, cp, a1, a2, a3, a5, a9, ⟨a10, a11⟩, _⟩ := c1
            have t60 : rd (wr (wr τ3 123 18 (i32 n)) 123 17 (i32 (A2 + 1 : Nat))) 123 60 = i32 q0 := by rw [rd_wr, if_neg (by omega), rd_wr, if_neg (by omega)]; exact a10
            have t22 : rd (wr (wr τ3 123 18 (i32 n)) 123 17 (i32 (A2 + 1 : Nat))) 123 22 = i32 (r + k' : Nat) := by rw [rd_wr, if_neg (by omega), rd_wr, if_neg (by omega)]; exact r7
            have t46 : rd (wr (wr τ3 123 18 (i32 n)) 123 17 (i32 (A2 + 1 : Nat))) 123 46 = i32 P2 := by rw [rd_wr, if_neg (by omega), rd_wr, if_neg (by omega)]; exact p5'
            have t17 : rd (wr (wr τ3 123 18 (i32 n)) 123 17 (i32 (A2 + 1 : Nat))) 123 17 = i32 (A2 + 1 : Nat) := by rw [rd_wr, if_pos ⟨rfl, rfl⟩]
            have tt : ∀ j i, j ≠ 123 → rd (wr (wr τ3 123 18 (i32 n)) 123 17 (i32 (A2 + 1 : Nat))) j i = rd τ3 j i := fun j i hj => by rw [wr_nek hj, wr_nek hj]
            obtain ⟨τ5, b1, b2⟩ := mcall_loop (L := L) (xs := xs) (σ := σ3) (A := A) (τ := wr (wr τ3 123 18 (i32 n)) 123 17 (i32 (A2 + 1 : Nat))) (l := i32 A2) (fn := i32 f) (k := i32 k') (q := q0) (r := r) z8.1 (fun c hc => by
                obtain ⟨s', b1, b2, b3, b4⟩ := contK.st kl P P2 z8.1 c hc
                rw [tt 161 c (by omega), z3.s161 b4 b1, b1]) (fun w c hw => (tt 135 _ (by omega)).trans (z8.2 w c hw).2.1) (by omega) (by omega) (by omega) hkl0 kl [] _ P2 rfl (nodL.zero t60) (fun _ => rfl) (fun e => absurd rfl e)
            have b17 : rd τ5 123 17 = i32 (A2 + 1 : Nat) := (b2.1 123 17 (by omega) (by omega) (by omega) (by omega)).trans t17
            refine ⟨τ5, e47 _ (fun dm => ?_), q0, a10, a11, b2⟩
            rw [← q3, c2_refl, e322_80 (dm + 6), t17, i32_s1 (by omega), hkv, bI_ok (mnew_ok t46 (by omega) (dm + 5) 4 _ _), c_in (by omega) (by omega) (by omega), c_in (by omega) (by omega) (by omega), c_in (by omega) (by omega) (by omega), i32_ixn (by omega)]
            have m60 : rd (mNew (wr (wr τ3 123 18 (i32 n)) 123 17 (i32 (A2 + 1 : Nat))) P2 4 (i32 A) (i32 A2)) 123 60 = i32 q0 := (mNew_oth (by omega) (by omega)).trans t60
            have m22 : rd (mNew (wr (wr τ3 123 18 (i32 n)) 123 17 (i32 (A2 + 1 : Nat))) P2 4 (i32 A) (i32 A2)) 123 22 = i32 (r + k' : Nat) := (mNew_oth (by omega) (by omega)).trans t22
            rw [m60, m22, i32_sn (by omega), show r + k' - k' = r by omega]
            have b3 := b1 (dm + 5) (.int (i32 f))
            rw [z6, b17, i32_s1 (by omega), hkv] at b3
            exact b3
          obtain ⟨τ5, hmS5, q0, x1, x2, x3⟩ := hrun
          -- both states
          have hCn : ∀ j i, ¬ (i = P2 ∧ 16 ≤ j ∧ j ≤ 28) → ¬ (i ∈ kl ∧ 23 ≤ j ∧ j ≤ 25) → ¬ (j = 15 ∧ i = 13) → scC j i = false → rd (wr (wr (wr σ5 62 11 (i32 H)) 62 8 (i32 A)) 62 9 (i32 A2)) j i = rd σ3 j i := fun j i h1 h2 h3 h4 => by
            have hne : ∀ k, scC 62 k = true → ¬ (j = 62 ∧ i = k) := fun k hk q => by rw [q.1, q.2, hk] at h4; cases h4
            rw [rd_wr, if_neg (hne 9 rfl), rd_wr, if_neg (hne 8 rfl), rd_wr, if_neg (hne 11 rfl), y2.1 j i h1 h2 h3, rd_wr, if_neg (hne 3 rfl)]
          have hCP : ∀ j, j < 62 → rd (wr (wr (wr σ5 62 11 (i32 H)) 62 8 (i32 A)) 62 9 (i32 A2)) j P2 = rd σ5 j P2 := fun j hj => by rw [wr_nek (by omega), wr_nek (by omega), wr_nek (by omega)]
          have hCk : ∀ j i, j < 62 → rd (wr (wr (wr σ5 62 11 (i32 H)) 62 8 (i32 A)) 62 9 (i32 A2)) j i = rd σ5 j i := fun j i hj => by rw [wr_nek (by omega), wr_nek (by omega), wr_nek (by omega)]
          have hl6 : (wr (wr (wr σ5 62 11 (i32 H)) 62 8 (i32 A)) 62 9 (i32 A2)).2 = σ3.2 := y2.2.2.2.2
          have u3 : rd (wr (wr (wr σ5 62 11 (i32 H)) 62 8 (i32 A)) 62 9 (i32 A2)) 62 3 = i32 (A2 + 1 : Nat) := by rw [rd_wr, if_neg (by omega), rd_wr, if_neg (by omega), rd_wr, if_neg (by omega), e62]; exact f62
          have u4 : rd (wr (wr (wr σ5 62 11 (i32 H)) 62 8 (i32 A)) 62 9 (i32 A2)) 62 4 = i32 D := by rw [rd_wr, if_neg (by omega), rd_wr, if_neg (by omega), rd_wr, if_neg (by omega), e62, rd_wr, if_neg (by omega)]; exact r3
          have u11 : rd (wr (wr (wr σ5 62 11 (i32 H)) 62 8 (i32 A)) 62 9 (i32 A2)) 62 11 = i32 H := by rw [rd_wr, if_neg (by omega), rd_wr, if_neg (by omega), rd_wr, if_pos ⟨rfl, rfl⟩]
          have u8 : rd (wr (wr (wr σ5 62 11 (i32 H)) 62 8 (i32 A)) 62 9 (i32 A2)) 62 8 = i32 A := by rw [rd_wr, if_neg (by omega), rd_wr, if_pos ⟨rfl, rfl⟩]
          have u9 : rd (wr (wr (wr σ5 62 11 (i32 H)) 62 8 (i32 A)) 62 9 (i32 A2)) 62 9 = i32 A2 := by rw [rd_wr, if_pos ⟨rfl, rfl⟩]
          have u63 : ∀ i, rd (wr (wr (wr σ5 62 11 (i32 H)) 62 8 (i32 A)) 62 9 (i32 A2)) 63 i = rd σ3 63 i := fun i => by rw [wr_nek (by omega), wr_nek (by omega), wr_nek (by omega), y2.1 63 i (by omega) (by omega) (by omega), wr_nek (by omega)]
          generalize wr (wr (wr σ5 62 11 (i32 H)) 62 8 (i32 A)) 62 9 (i32 A2) = σ6 at y1 hCn hCP hCk hl6 u3 u4 u11 u8 u9 u63
          have hMn : ∀ j i, ¬ (i = P2 ∧ 151 ≤ j ∧ j ≤ 163) → ¬ (i ∈ kl ∧ j = 159) → ¬ (j = 123 ∧ (i = 46 ∨ i = 60 ∨ i = 22 ∨ i = 18 ∨ i = 17)) → ¬ (j = 164 ∧ q0 ≤ i) → ¬ (135 ≤ j ∧ j ≤ 137 ∧ i = r) → rd (wr (wr (wr (wr τ5 135 r (i32 P2)) 136 r (i32 A)) 137 r (i32 A2)) 123 22 (i32 (r + 1 : Nat))) j i = rd τ3 j i := fun j i h1 h2 h3 h4 h5 => by
            rw [rd_wr, if_neg (by omega), rd_wr, if_neg (by omega), rd_wr, if_neg (by omega), rd_wr, if_neg (by omega), x3.1 j i h1 h2 (by omega) h4, rd_wr, if_neg (by omega), rd_wr, if_neg (by omega)]
          have hM5 : ∀ j i, j ≠ 123 → ¬ (135 ≤ j ∧ j ≤ 137) → rd (wr (wr (wr (wr τ5 135 r (i32 P2)) 136 r (i32 A)) 137 r (i32 A2)) 123 22 (i32 (r + 1 : Nat))) j i = rd τ5 j i := fun j i h1 h2 => by
            rw [rd_wr, if_neg (by omega), rd_wr, if_neg (by omega), rd_wr, if_neg (by omega), rd_wr, if_neg (by omega)]
          have t3 : ∀ i, i ≠ 22 → rd (wr (wr (wr (wr τ5 135 r (i32 P2)) 136 r (i32 A)) 137 r (i32 A2)) 123 22 (i32 (r + 1 : Nat))) 123 i = rd τ5 123 i := fun i h1 => by
            rw [rd_wr, if_neg (by omega), rd_wr, if_neg (by omega), rd_wr, if_neg (by omega), rd_wr, if_neg (by omega)]
          have t22 : rd (wr (wr (wr (wr τ5 135 r (i32 P2)) 136 r (i32 A)) 137 r (i32 A2)) 123 22 (i32 (r + 1 : Nat))) 123 22 = i32 (r + 1 : Nat) := by rw [rd_wr, if_pos ⟨rfl, rfl⟩]
          have v5 : rd (wr (wr (wr (wr τ5 135 r (i32 P2)) 136 r (i32 A)) 137 r (i32 A2)) 123 22 (i32 (r + 1 : Nat))) 135 r = i32 P2 := by rw [wr_nek (by omega), wr_nek (by omega), wr_nek (by omega), rd_wr, if_pos ⟨rfl, rfl⟩]
          have v6 : rd (wr (wr (wr (wr τ5 135 r (i32 P2)) 136 r (i32 A)) 137 r (i32 A2)) 123 22 (i32 (r + 1 : Nat))) 136 r = i32 A := by rw [wr_nek (by omega), wr_nek (by omega), rd_wr, if_pos ⟨rfl, rfl⟩]
          have v7 : rd (wr (wr (wr (wr τ5 135 r (i32 P2)) 136 r (i32 A)) 137 r (i32 A2)) 123 22 (i32 (r + 1 : Nat))) 137 r = i32 A2 := by rw [wr_nek (by omega), rd_wr, if_pos ⟨rfl, rfl⟩]
          have t5' : ∀ i, i = 17 ∨ i = 18 ∨ i = 26 → rd τ5 123 i = rd (wr (wr τ3 123 18 (i32 n)) 123 17 (i32 (A2 + 1 : Nat))) 123 i := fun i hi => x3.1 123 i (by omega) (by omega) (by omega) (by omega)
          have t17 := ((t3 17 (by omega)).trans (t5' 17 (by omega))).trans (wr_self _ _ _ _)
          have t18 := ((t3 18 (by omega)).trans (t5' 18 (by omega))).trans (show rd (wr (wr τ3 123 18 (i32 n)) 123 17 (i32 (A2 + 1 : Nat))) 123 18 = i32 n by rw [rd_wr, if_neg (by omega), wr_self])
          have t26 := ((t3 26 (by omega)).trans (t5' 26 (by omega))).trans (show rd (wr (wr τ3 123 18 (i32 n)) 123 17 (i32 (A2 + 1 : Nat))) 123 26 = i32 D by rw [rd_wr, if_neg (by omega), rd_wr, if_neg (by omega)]; exact r4)
          have t46 := (t3 46 (by omega)).trans x3.2.2.2.1
          have t60 := (t3 60 (by omega)).trans x3.2.2.2.2.1
          generalize wr (wr (wr (wr τ5 135 r (i32 P2)) 136 r (i32 A)) 137 r (i32 A2)) 123 22 (i32 (r + 1 : Nat)) = τ6 at hmS5 hMn hM5 t17 t18 t26 t46 t60 t22 v5 v6 v7
          refine OUTI.pre hmS5 ?_
          obtain ⟨b1, b2, b3, b4, b5, b6, b7, b8, b9, b10⟩ := y2.2.1
          obtain ⟨g1, g2, g3, g4, g5, g6, g7, g8, g9, g10⟩ := x3.2.1
          have hkm := contK.mem kl P P2 z8.1
          have hla : ∀ q, q < P2 → ix (rd σ3 18 q) < A2 := fun q hq => z3.last hq
          have hwP : P2 + 1 ≤ wch μ (A2 + 1) := by omega
          obtain ⟨F, ⟨hc, hsc, hF1⟩, hF, hO, hPF, hZ⟩ := z3
          have hlen : r + kl.length = r + k' := by rw [z6]
          have core : CORE K1 K2 m μ g fc sc fs F (A2 + 1) (P2 + 1) (r + 1) σ6 τ6 := by
            have hc2 := hc.ag (by omega) agC.refl agM.refl (Nat.le_succ A2)
            rw [← z6] at hc2
            refine CORE.node (κ := 3) (a := A) (b := A2) (st := P) hc2 (by omega) (by omega) (by omega) (fun j i h1 h2 _ h4 _ _ h7 => hCn j i h1 h2 (by omega) h7)
              (fun j i h1 h2 h3 h4 h5 => hMn j i h1 h2 (fun q => by
                rcases q.2 with e | e | e | e | e
                · exact h3 ⟨q.1, Or.inl e⟩
                · exact h3 ⟨q.1, Or.inr e⟩
                · rw [q.1, e] at h5; cases h5
                · rw [q.1, e] at h5; cases h5
                · rw [q.1, e] at h5; cases h5) (fun q => h4 ⟨q.1, by rw [x1, i32_ixn (by omega)]; exact q.2⟩) (fun q => by
                have : rgN 132 138 j = true := by unfold rgN; rw [Nat.ble_eq_true_of_le (by omega), Nat.blt_eq.mpr (by omega)]; rfl
                unfold scM at h5; rw [this] at h5; cases h5))
              (by rw [hl6]) (by unfold roomC at p10 ⊢; unfold ln rm at p10 ⊢; rw [hl6]; exact p10) (fun C cp hcp => ⟨C, cp, hcp.node (κ := 3) (by omega) (by omega) (by omega) ((hCP 16 (by omega)).trans b1) (fun j i h1 h2 h3 h4 => hCn j i h1 (by omega) h3 h4) hl6⟩)
              ((hCk 15 13 (by omega)).trans y2.2.2.2.1) t46 (fun q h1 h2 => ⟨q0 + kl.length, t60, ?_, ?_⟩) z8.1 (fun c hc => ?_) (by omega) ((hCP 16 (by omega)).trans b1) ((hM5 151 P2 (by omega) (by omega)).trans g1) ((hCP 17 (by omega)).trans b2) ((hCP 18 (by omega)).trans b3) ((hM5 152 P2 (by omega) (by omega)).trans g2) ((hM5 153 P2 (by omega) (by omega)).trans g3) (by omega) (by omega) ((hCP 26 (by omega)).trans b8) ((hM5 161 P2 (by omega) (by omega)).trans g8) ((hCP 28 (by omega)).trans b10) ?_ ?_ (fun w c hw => ?_) ?_ (fun w c hw => ?_) ⟨fun q => absurd q (by omega), nnR_no (by omega) (by omega) (by omega) (by omega)⟩ (ownR_no (by omega) (by omega) (by omega)) ⟨fun q => absurd rfl q, fun _ => ⟨⟨hkl0, fun w c s' hw hs' q h1 h2 => ?_⟩, ?_⟩⟩ ⟨fun _ => ⟨by omega, fun q h1 h2 => ⟨?_, ?_⟩, fun q h1 => ?_⟩, fun q => absurd q (by omega)⟩
            · have := (i32_inj (by omega) (by omega) (by omega) (by omega)).mp (h1.symm.trans x1)
              omega
            · omega
            · obtain ⟨w, hw⟩ := List.getElem?_of_mem hc
              exact (z8.2 w c hw).2.2.1
            · rw [hM5 160 P2 (by omega) (by omega), g7, rd_wr, if_neg (by omega), rd_wr, if_neg (by omega)]
            · rw [hM5 159 P2 (by omega) (by omega), g6, hCP 24 (by omega), b6]
            · obtain ⟨c1, c2, c3⟩ := y2.2.2.1 w c hw
              obtain ⟨c4, c5⟩ := x3.2.2.1 w c hw
              exact ⟨(hCk 24 c (by omega)).trans c1, (hCk 25 c (by omega)).trans c2, (hM5 159 c (by omega) (by omega)).trans c4⟩
            · refine ⟨fun _ => by rw [hM5 157 P2 (by omega) (by omega), g4, hCP 27 (by omega), b9], fun q => absurd q (by omega), fun q => absurd q (by omega), fun q1 q2 => absurd q1 (by omega), fun q => absurd q (by omega), fun q => absurd q (by omega), fun _ => by rw [hM5 158 P2 (by omega) (by omega), g5, hCP 17 (by omega), b2], fun q => absurd q (by omega), fun q => absurd rfl q, fun _ => ⟨(hCP 20 (by omega)).trans b4, fun w c hw => ?_, q0, ?_, ?_, ?_, fun w c hw => ?_⟩⟩
              · obtain ⟨c1, c2, c3⟩ := y2.2.2.1 w c hw
                exact (hCk 23 c (by omega)).trans c3
              · rw [hM5 162 P2 (by omega) (by omega)]; exact g9
              · rw [hM5 163 P2 (by omega) (by omega), z6]; exact g10
              · rw [t60, i32_ixn (by omega)]; exact Nat.le_refl _
              · rw [hM5 164 _ (by omega) (by omega)]; exact (x3.2.2.1 w c hw).2
            · rw [scl_no (by omega) (by omega) (by omega), (z8.2 w c hw).2.2.2.2]
              obtain ⟨V, S, C, q', cp, a1, a2, a3, a5, a9, a10, a12, a13, a14, a15, _⟩ := hc
              exact a15.1
            · have hcm := hkm c (List.mem_of_getElem? hw)
              have hw0 := getq_lt hw
              rw [hCn 26 c (by omega) (by omega) (by omega) rfl] at hs'
              rw [(hCP 17 (by omega)).trans b2, (hCP 18 (by omega)).trans b3, hCn 17 q (by omega) (by omega) (by omega) rfl, hCn 18 q (by omega) (by omega) (by omega) rfl, i32_ixn (by omega), i32_ixn (by omega)]
              have := zS w c s' hw hs' q h1 h2
              omega
            · obtain ⟨V, S, C, q', cp, a1, a2, a3, a5, a9, a10, a12, a13, a14, a15, _⟩ := hc
              obtain ⟨a, y5, y6⟩ := hPF f (by omega)
              have h38 : rd σ6 15 38 = i32 fc := (hCn 15 38 (by omega) (by omega) (by omega) rfl).trans a13.2.2.2.1
              refine ⟨f, a, (hCP 27 (by omega)).trans b9, by rw [h38, i32_ixn (by omega)]; omega, by omega, ?_, (hCn 46 f (by omega) (by omega) (by omega) rfl).trans y5, y6⟩
              rw [hCn 44 f (by omega) (by omega) (by omega) rfl, z6]; exact q3.symm
            · rw [hCn 17 q (by omega) (by omega) (by omega) rfl]; exact zR q h1 h2
            · rw [hCn 18 q (by omega) (by omega) (by omega) rfl]; exact hla q h2
            · rw [hCn 18 q (by omega) (by omega) (by omega) rfl, OLDg.r17 hold3 h1 (j := 18) (by omega) (by omega)]; exact h.last h1
          have hR6 : RF A P (P2 + 1) σ6 := fun q h1 h2 => by
            by_cases e : q = P2
            · rw [e, (hCP 17 (by omega)).trans b2, i32_ixn (by omega)]; exact Nat.le_refl _
            · rw [hCn 17 q (by omega) (by omega) (by omega) rfl]; have := zR q h1 (by omega); omega
          refine Or.inl ⟨_, σ6, τ6, y1, mS.refl, A2 + 1, P2 + 1, rfl, ⟨F, ⟨core, ⟨u3, t17, u4, t26, u11, t18, t22, hlt2, r9, by omega, by omega, hwP⟩, by omega⟩, by omega, ?_, fun f hf => ?_, hZ.node p5' (by omega) t46 ?_ (fun i hi => hMn 123 i (by omega) (by omega) (by omega) (by omega) (by omega)) (fun j hj i => hMn j i (by omega) (by omega) (by omega) (by omega) (by omega)) (fun i hi => hMn 160 i (by omega) (by omega) (by omega) (by omega) (by omega))⟩, ⟨⟨by omega, hR6⟩, by omega, u8, by rw [hkv]; exact u9, v5, v6, by rw [hkv]; exact v7, by omega, (hCP 26 (by omega)).trans b8, (hCP 24 (by omega)).trans b6, (hCP 25 (by omega)).trans b7, (hCP 23 (by omega)).trans b5, ?_⟩, by omega, by rw [hkv, q2]; rfl, ?_⟩
          · rw [hCn 62 6 (by omega) (by omega) (by omega) rfl, hO]
            cases sc with
            | nil => rfl
            | cons v t => exact (hCn 31 v (by omega) (by omega) (by omega) rfl).symm
          · obtain ⟨a, y5, y6⟩ := hPF f hf
            exact ⟨a, (hCn 46 f (by omega) (by omega) (by omega) rfl).trans y5, by omega⟩
          · rw [hM5 160 P2 (by omega) (by omega), g7, rd_wr, if_neg (by omega), rd_wr, if_neg (by omega)]
          · show rd σ6 28 P2 = rd σ6 62 5
            rw [hCP 28 (by omega), b10, hCn 62 5 (by omega) (by omega) (by omega) rfl]
          · refine hold3.trans (σ' := σ3) (τ' := τ3) (n1 := n) (r1 := r) (H1 := H) (P1 := P) ⟨fun i hi j h1 h2 => hMn j i (by omega) (by omega) (by omega) (by omega) (by omega), fun i hi j h1 h2 => hMn j i (by omega) (by omega) (by omega) (by omega) (by omega), fun i _ => u63 i, fun p hp j h1 h2 => hCn j p (by omega) (fun q => by have := hkm p q.1; omega) (by omega) (scC_lo (by omega)), fun v _ => ⟨?_, hCn 31 v (by omega) (by omega) (by omega) rfl, hCn 32 v (by omega) (by omega) (by omega) rfl, hCn 33 v (by omega) (by omega) (by omega) rfl⟩, ?_, fun j _ i => ?_, OLX.of (fun j i h => hCn j i (by omega) (fun q => by have := hkm i q.1; omega) (by omega) (scC_lo (by omega))) (fun j i h => hMn j i (by omega) (by omega) (by omega) (by omega) (by omega)), MB.node p5 (by omega) ((hCk 15 13 (by omega)).trans y2.2.2.2.1) (hCn 15 19 (by omega) (by omega) (by omega) rfl) (fun j i hi h => hCn j i (by omega) (by omega) (by omega) (scC_lo (by omega))) (nobnd (κ := 3) ((hCP 16 (by omega)).trans b1) (by omega) (by omega) (by omega) (by omega))⟩ (Nat.le_refl _) (Nat.le_refl _) (Nat.le_refl _) (Nat.le_refl _)
            · unfold rl; rw [hl6]
            · rw [hCn 15 19 (by omega) (by omega) (by omega) rfl]; exact Nat.le_refl _
            · unfold rl; rw [hl6]
        · -- another number of parts
          have hne : pv_c2 .eq (i32 (k' : Int)) (rd σ3 44 f) = false := by unfold pv_c2; exact decide_eq_false q3
          rw [hne, cond_false]
          have hA4 : ST K1 K2 m μ g fc sc fs D (H + k') (n + 1) (A2 + 1) P2 (r + k') (wr σ3 62 3 (i32 (A2 + 1 : Nat))) (wr τ3 123 17 (i32 (A2 + 1 : Nat))) := z3.at1 hlt2
          obtain ⟨x1, x2, x3, x4, _, _, _, _, _, x10⟩ := hA4.all
          rw [bV_ex (cfail_ok x1 (A := A) (by omega) x4 (d + 2) 4)]
          refine Or.inr (FLT.mk' (τ1 := wr (wr τ3 123 18 (i32 n)) 123 17 (i32 (A2 + 1 : Nat))) (A' := A) hst4 (by omega) (by decide) rfl ?_)
          refine e47 _ (fun dm => ?_)
          rw [hne, cond_false, bV_ok (mfail_ok (by rw [rd_wr, if_neg (by omega), rd_wr, if_neg (by omega)]; exact p3) (dm + 5) _ _)]
          rfl
      · rw [if_neg q2] at hms3
        rw [e135_53 (d + 4), bV_ex hms3]
        refine Or.inr (FLT.mk' (τ1 := wr τ3 123 18 (i32 n)) hpop3 r8 (k := 2) (by decide) rfl ?_)
        refine nx r6 (by omega) p3 z4 (pc := 346) (by decide +kernel) (fun dm => ?_)
        have ht := hpop3.take (L := L) (xs := xs) (x := 25) (k := 25) rfl (by omega) (dm + 4)
        rw [if_neg q2] at ht
        rw [e310_346 (dm + 7), bV_ok (r := rn L xs (dm + 7) 322 0 _ _ _) (σ := mFlt (wr τ3 123 18 (i32 n)) 2 (rd (wr τ3 123 18 (i32 n)) 127 A2)), e310_362]
        rw [e322_0 (dm + 6), bI_ok (hpop3.mk (dm + 5)), mcondn (x := 26) (y := 26) rfl hpop3.mu36 (by omega), if_neg z5, e322_37 (dm + 6), bI_ok ht, show pv_c1 .ne (0 : Int32) = false from rfl, cond_false]
    · exact Or.inr hF
  · rw [if_neg q] at hms
    rw [bV_ex hms]
    refine Or.inr (FLT.mk' (τ1 := wr (wr τ 123 18 (i32 n)) 123 17 (i32 (A + 1 : Nat))) hst1 (by omega) (k := 2) (by decide) rfl ?_)
    refine hname _ (fun dm => ?_)
    have ht := hst1.take (L := L) (xs := xs) (x := 24) (k := 24) rfl (by omega) (dm + 3)
    rw [if_neg q] at ht
    rw [bI_ok ht, show pv_c1 .eq (0 : Int32) = true from rfl, cond_true]
end CALL3
