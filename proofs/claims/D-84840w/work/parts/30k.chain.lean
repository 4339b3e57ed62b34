/-! READING: chains -/
section CHAIN
variable {L : Nat} {xs : Nat → Int32} {K1 K2 m : Nat} {μ : Nat → Nat} {g fc : Nat} {sc : List Nat} {fs : List (Nat × Nat × List Nat)} {D H n A P r : Nat} {σ τ : tvS}
theorem hold_ok {H : Nat} (hH : rd σ 62 11 = i32 H) (hlt : H < 16404) (d : Nat) (x : Int32) : rn L xs (d + 1) 131 0 [.ref 62, .int x] [] σ = some (.inl none, wr (wr σ 63 H x) 62 11 (i32 (H + 1 : Nat))) := by
  rw [e131_0, hH, c_in (by omega) (by omega) (by omega), i32_ixn (by omega), i32_n1]
theorem drop_ok {H : Nat} (hH : rd σ 62 11 = i32 (H + 1 : Nat)) (hlt : H < 16404) (d : Nat) : rn L xs (d + 1) 136 0 [.ref 62] [] σ = some (.inl (some (.int (rd σ 63 H))), wr σ 62 11 (i32 H)) := by
  rw [e136_0, hH, i32_s1 (by omega), show H + 1 - 1 = H by omega, c_in (by omega) (by omega) (by omega), i32_ixn (by omega)]
theorem chain_loop {B : Nat} (hp : NT L xs K1 K2 m μ g fc 5 126 2 10 [jv, jv, jv, jv] B) {sc : List Nat} {fs : List (Nat × Nat × List Nat)} {D d base : Nat} (hd : 12 * (40 - D) + 20 + 10 ≤ d) : ∀ (b n r H A0 P0 A1 P1 : Nat) (σ τ : tvS) (v3 v4 v5 v6 : Value), m - A1 < b → base ≤ H → P0 ≤ wch μ A0 → m - A0 < B → n ≤ 8 * A0 + 1 → ST K1 K2 m μ g fc sc fs D H (n + 1) A1 P1 (r + 1) σ τ → rd τ 132 n = i32 4 → TOP A0 P0 A1 P1 r σ τ → P1 + ach μ A0 + wch μ A0 ≤ P0 + wch μ A1 → aen (μ (A1 - 1)) = true →
    (∃ A' P' σ' τ' w3 w4 w5 w6, rn L xs (d + 1) 125 10 [.ref 62, .int (i32 base), .int (i32 (P1 - 1 : Nat)), v3, v4, v5, v6] [] σ = rn L xs (d + 1) 125 59 [.ref 62, .int (i32 base), .int (i32 (P' - 1 : Nat)), w3, w4, w5, w6] [] σ' ∧ mS L xs τ τ' ∧ ST K1 K2 m μ g fc sc fs D H n A' P' (r + 1) σ' τ' ∧ TOP A0 P0 A' P' r σ' τ' ∧ P' + ach μ A0 + wch μ A0 ≤ P0 + wch μ A' ∧ aen (μ (A' - 1)) = true ∧ OLD n r H P0 σ τ σ' τ') ∨
      FLT L xs K1 K2 τ (rn L xs (d + 1) 125 10 [.ref 62, .int (i32 base), .int (i32 (P1 - 1 : Nat)), v3, v4, v5, v6] [] σ) := by
  intro b
  induction b with
  | zero => intro n r H A0 P0 A1 P1 σ τ _ _ _ _ h; exact absurd h (Nat.not_lt_zero _)
  | succ b ih =>
    intro n r H A0 P0 A1 P1 σ τ v3 v4 v5 v6 hb hbase hP0 hB hn h hX hT hw ha
    have hpop := h.pop
    have hmS := on_nx (L := L) (xs := xs) (X := 4) h hX (by omega) (fun d => on4 hpop d)
    obtain ⟨o1, o2, o3, o4, o5, o6, ⟨s1, s2, s3, s4, s5, s6, s7, s8, s9, s10, s11, s12⟩, o8, o9, o10⟩ := h.all
    have hT' := hT
    obtain ⟨t1, t2, t3, t4, t5, t6, t7, u1, u2, u3, u4, u5, u6⟩ := hT'
    obtain ⟨d', rfl⟩ : ∃ d', d = d' + 3 := ⟨d - 3, by omega⟩
    rw [e125_10 (d' + 3), bI_ok (h.sg (x := 259) (k := 23) rfl (by omega) (by omega) (d' + 1)), c1_eq_bN]
    by_cases q : μ A1 = 23
    · rw [if_pos q] at hmS
      have hlt := h.lt (by omega)
      -- the component holds, the model has it to do
      have h1 : rd (wr (wr σ 63 H (i32 (P1 - 1 : Nat))) 62 11 (i32 (H + 1 : Nat))) 62 11 = i32 (H + 1 : Nat) := by rw [rd_wr, if_pos ⟨rfl, rfl⟩]
      generalize hσ1 : wr (wr σ 63 H (i32 (P1 - 1 : Nat))) 62 11 (i32 (H + 1 : Nat)) = σ1 at h1
      have g8 : rd σ1 62 8 = i32 A0 := by rw [← hσ1, rd_wr, if_neg (by omega), wr_nek (by omega)]; exact t3
      have h2 : rd (wr (wr σ1 63 (H + 1) (i32 A0)) 62 11 (i32 (H + 2 : Nat))) 62 11 = i32 (H + 2 : Nat) := by rw [rd_wr, if_pos ⟨rfl, rfl⟩]
      generalize hσ2 : wr (wr σ1 63 (H + 1) (i32 A0)) 62 11 (i32 (H + 2 : Nat)) = σ2 at h2
      have g3 : rd σ2 62 3 = i32 A1 := by rw [← hσ2, rd_wr, if_neg (by omega), wr_nek (by omega), ← hσ1, rd_wr, if_neg (by omega), wr_nek (by omega)]; exact s1
      have h3 : rd (wr (wr σ2 63 (H + 2) (i32 A1)) 62 11 (i32 (H + 3 : Nat))) 62 11 = i32 (H + 3 : Nat) := by rw [rd_wr, if_pos ⟨rfl, rfl⟩]
      generalize hσ3 : wr (wr σ2 63 (H + 2) (i32 A1)) 62 11 (i32 (H + 3 : Nat)) = σ3 at h3
      have r63 : rd σ3 63 H = i32 (P1 - 1 : Nat) ∧ rd σ3 63 (H + 1) = i32 A0 ∧ rd σ3 63 (H + 2) = i32 A1 := by
        subst hσ1; subst hσ2; subst hσ3
        refine ⟨?_, ?_, ?_⟩
        · rw [rd_wr, if_neg (by omega), rd_wr, if_neg (by omega), rd_wr, if_neg (by omega), rd_wr, if_neg (by omega), rd_wr, if_neg (by omega), rd_wr, if_pos (by omega)]
        · rw [rd_wr, if_neg (by omega), rd_wr, if_neg (by omega), rd_wr, if_neg (by omega), rd_wr, if_pos (by omega)]
        · rw [rd_wr, if_neg (by omega), rd_wr, if_pos (by omega)]
      have ag3 : agC σ σ3 := by
        subst hσ1; subst hσ2; subst hσ3
        exact (((((agC.refl.wr rfl).wr rfl).wr rfl).wr rfl).wr rfl).wr rfl
      have oc3 : ∀ i, i ≠ 11 → rd σ3 62 i = rd σ 62 i := by
        intro i hi
        subst hσ1; subst hσ2; subst hσ3
        rw [rd_wr, if_neg (by omega), rd_wr, if_neg (by omega), rd_wr, if_neg (by omega), rd_wr, if_neg (by omega), rd_wr, if_neg (by omega), rd_wr, if_neg (by omega)]
      have hold3 : OLD n r H P0 σ τ σ3 τ := by
        subst hσ1; subst hσ2; subst hσ3
        exact (((((OLD.refl.wrC (by omega)).wrC (by omega)).wrC (by omega)).wrC (by omega)).wrC (by omega)).wrC (by omega)
      have hST3 : ST K1 K2 m μ g fc sc fs D (H + 3) (n + 2) (A1 + 1) P1 (r + 1) (wr σ3 62 3 (i32 (A1 + 1 : Nat))) (wr (mPush (mPush (wr τ 123 18 (i32 n)) n 21 (i32 A1) 0) (n + 1) 3 0 0) 123 17 (i32 (A1 + 1 : Nat))) := by
        have hx := (hpop.push (by omega) 21 (i32 A1) 0).push (by omega) 3 0 0
        obtain ⟨_, _, _, _, _, _, ⟨z1, z2, z3, z4, z5, z6, z7, z8, z9, z10, z11, z12⟩, _⟩ := hx.all
        exact hx.ag (ag3.wr rfl) (agM.refl.wr rfl) (Nat.le_succ _) hlt z9 (by omega) (by omega) (by rw [rd_wr, if_pos ⟨rfl, rfl⟩]) (by rw [rd_wr, if_pos ⟨rfl, rfl⟩]) (by rw [rd_wr, if_neg (by omega), oc3 4 (by omega)]; exact s3) (by rw [rd_wr, if_neg (by omega)]; exact z4) (by rw [rd_wr, if_neg (by omega)]; exact h3) (by rw [rd_wr, if_neg (by omega)]; exact z6) (by rw [rd_wr, if_neg (by omega)]; exact z7)
      have i1 : IT (wr (mPush (mPush (wr τ 123 18 (i32 n)) n 21 (i32 A1) 0) (n + 1) 3 0 0) 123 17 (i32 (A1 + 1 : Nat))) (n + 1) 3 0 0 := (IT.at rfl).wr (by omega)
      have i2 : IT (wr (mPush (mPush (wr τ 123 18 (i32 n)) n 21 (i32 A1) 0) (n + 1) 3 0 0) 123 17 (i32 (A1 + 1 : Nat))) n 21 (i32 A1) 0 := ((IT.at rfl).push (by omega)).wr (by omega)
      have hold4 : OLD n r H P0 σ τ (wr σ3 62 3 (i32 (A1 + 1 : Nat))) (wr (mPush (mPush (wr τ 123 18 (i32 n)) n 21 (i32 A1) 0) (n + 1) 3 0 0) 123 17 (i32 (A1 + 1 : Nat))) := ((((hold3.wrC (Or.inl rfl)).wrM (by omega)).push (by omega)).push (by omega)).wrM (by omega)
      have hr1 : ∀ j, 135 ≤ j → j ≤ 137 → rd (wr (mPush (mPush (wr τ 123 18 (i32 n)) n 21 (i32 A1) 0) (n + 1) 3 0 0) 123 17 (i32 (A1 + 1 : Nat))) j r = rd τ j r := fun j h1 h2 => (wr_nek (by omega)).trans ((mPush_oth (by omega) (by omega)).trans ((mPush_oth (by omega) (by omega)).trans (wr_nek (by omega))))
      generalize wr (mPush (mPush (wr τ 123 18 (i32 n)) n 21 (i32 A1) 0) (n + 1) 3 0 0) 123 17 (i32 (A1 + 1 : Nat)) = τ3 at hST3 i1 i2 hold4 hr1 hmS
      have r63' : rd (wr σ3 62 3 (i32 (A1 + 1 : Nat))) 63 H = i32 (P1 - 1 : Nat) ∧ rd (wr σ3 62 3 (i32 (A1 + 1 : Nat))) 63 (H + 1) = i32 A0 ∧ rd (wr σ3 62 3 (i32 (A1 + 1 : Nat))) 63 (H + 2) = i32 A1 := by
        rw [wr_nek (by omega), wr_nek (by omega), wr_nek (by omega)]; exact r63
      have hPT3 : PT P0 (P1 - 1) (wr σ3 62 3 (i32 (A1 + 1 : Nat))) := by
        have e : ∀ j, j < 62 → rd (wr σ3 62 3 (i32 (A1 + 1 : Nat))) j (P1 - 1) = rd σ j (P1 - 1) := fun j hj => (wr_nek (by omega)).trans (ag3.1 j _ (scC_lo hj))
        exact ⟨u1, (e 26 (by omega)).trans u2, (e 24 (by omega)).trans u3, (e 25 (by omega)).trans u4, (e 23 (by omega)).trans u5, ((e 28 (by omega)).trans u6).trans (by rw [rd_wr, if_neg (by omega)]; exact (ag3.1 62 5 rfl).symm)⟩
      have hR3 : RF A0 P0 P1 (wr σ3 62 3 (i32 (A1 + 1 : Nat))) := t1.2.to (fun q _ => (wr_nek (by omega)).trans (ag3.1 17 q (scC_lo (by omega))))
      rw [decide_eq_true q, cond_true, bV_ok (hold_ok s5 (by omega) (d' + 2) _), hσ1, g8, bV_ok (hold_ok h1 (by omega) (d' + 2) _), hσ2, g3, bV_ok (hold_ok h2 (by omega) (d' + 2) _), hσ3, oc3 3 (by omega), s1, i32_n1]
      generalize wr σ3 62 3 (i32 (A1 + 1 : Nat)) = σ4 at hST3 hold4 r63' hPT3 hR3
      -- a chain again
      obtain ⟨p1, p2, p3, p4, p5, p6, ⟨r1, r2, r3, r4, r5, r6, r7, r8, r9, r10, r11, r12⟩, p8, p9, p10⟩ := hST3.all
      have hpop3 := hST3.pop
      have hmS3 : mS L xs τ3 (mPush (mPush (wr τ3 123 18 (i32 (n + 1 : Nat))) (n + 1) 4 0 0) (n + 2) 5 0 0) := by
        refine nx (n := n + 1) r6 (by omega) p3 i1 (pc := 204) (by decide +kernel) (fun dm => ?_)
        rw [e310_204 (dm + 7), bV_ok (mpush_ok (n := n + 1) (by rw [rd_wr, if_pos ⟨rfl, rfl⟩]) (by omega) (dm + 6) _ _ _), bV_ok (mpush_ok (n := n + 2) mPush_come (by omega) (dm + 6) _ _ _), e310_362]
      have hST4 := (hpop3.push (by omega) 4 0 0).push (by omega) 5 0 0
      have hold5 : OLD (n + 1) (r + 1) (H + 3) P1 σ4 τ3 σ4 (mPush (mPush (wr τ3 123 18 (i32 (n + 1 : Nat))) (n + 1) 4 0 0) (n + 2) 5 0 0) := ((OLD.refl.wrM (by omega)).push (by omega)).push (by omega)
      have k1 : IT (mPush (mPush (wr τ3 123 18 (i32 (n + 1 : Nat))) (n + 1) 4 0 0) (n + 2) 5 0 0) (n + 2) 5 0 0 := IT.at rfl
      have k2 : IT (mPush (mPush (wr τ3 123 18 (i32 (n + 1 : Nat))) (n + 1) 4 0 0) (n + 2) 5 0 0) (n + 1) 4 0 0 := (IT.at rfl).push (by omega)
      generalize mPush (mPush (wr τ3 123 18 (i32 (n + 1 : Nat))) (n + 1) 4 0 0) (n + 2) 5 0 0 = τ4 at hmS3 hST4 hold5 k1 k2
      have hws := wch_succ μ A1
      have hu : uch (μ A1) = 1 := by rw [q]; rfl
      rcases hp sc fs D (H + 3) (n + 2) (A1 + 1) P1 (r + 1) σ4 τ4 (d' + 3) hST4 k1.1 (by omega) (by omega) (by omega) with ⟨a, σ5, τ5, f1, f2, f3⟩ | ⟨σ0, τ0, k, p, f1, f2, f3, f4⟩
      · rw [bI_ok f1]
        obtain ⟨A2, P2, y1, y2, y3, y4, y5, y6⟩ := f3
        subst y1
        have hl1 : A1 + 1 < A2 := y3.1.1
        rcases ih (n + 1) (r + 1) (H + 3) (A1 + 1) P1 A2 P2 σ5 τ5 (dj (dj (dj (dj (dj v3))))) (dj (dj (dj (dj (dj v4))))) (dj (dj (dj (dj (dj v5))))) (dj (dj (dj (dj (dj v6))))) (by omega) (by omega) (by omega) (by omega) (by omega) y2 (IT.old y6 (by omega) k2).1 y3 y4 y5 with ⟨A3, P3, σ6, τ6, w3, w4, w5, w6, z1, z2, z3, z4, z5, z6, z7⟩ | hF
        · rw [z1]
          have hold6 : OLD (n + 1) (r + 1) (H + 3) P1 σ4 τ3 σ6 τ6 := hold5.trans ((y6.mono (by omega) (by omega) (by omega) (by omega)).trans z7 (Nat.le_refl _) (Nat.le_refl _) (Nat.le_refl _) (Nat.le_refl _)) (Nat.le_refl _) (Nat.le_refl _) (Nat.le_refl _) (Nat.le_refl _)
          obtain ⟨c1, c2, c3, c4, ⟨c5, c5'⟩, c6, ⟨x1, x2, x3, x4, x5, x6, x7, x8, x9, x10, x11, x12⟩, c8, c9, c10⟩ := z3.all
          obtain ⟨b1, b2, b3, b4, b5, b6, b7, b8⟩ := z4
          have hPT6 := PT.old hold6 (by omega) (hST3.s5 z3) hPT3
          have m63 : ∀ i, i < H + 3 → rd σ6 63 i = rd σ4 63 i := hold6.2.2.1
          -- what is held is dropped
          have l1 : rd (wr σ6 62 11 (i32 (H + 2 : Nat))) 62 11 = i32 (H + 2 : Nat) := by rw [rd_wr, if_pos ⟨rfl, rfl⟩]
          have l2 : rd (wr (wr σ6 62 11 (i32 (H + 2 : Nat))) 62 11 (i32 (H + 1 : Nat))) 62 11 = i32 (H + 1 : Nat) := by rw [rd_wr, if_pos ⟨rfl, rfl⟩]
          have l3 : rd (wr (wr (wr σ6 62 11 (i32 (H + 2 : Nat))) 62 11 (i32 (H + 1 : Nat))) 62 11 (i32 H)) 62 11 = i32 H := by rw [rd_wr, if_pos ⟨rfl, rfl⟩]
          have l4 : rd (wr σ6 62 11 (i32 (H + 2 : Nat))) 63 (H + 1) = i32 A0 := by rw [wr_nek (by omega), m63 _ (by omega)]; exact r63'.2.1
          have l5 : rd (wr (wr σ6 62 11 (i32 (H + 2 : Nat))) 62 11 (i32 (H + 1 : Nat))) 63 H = i32 (P1 - 1 : Nat) := by rw [wr_nek (by omega), wr_nek (by omega), m63 _ (by omega)]; exact r63'.1
          rw [e125_59 (d' + 3), x5, c2_le (by omega) (by omega) (by omega) (by omega), c_f (by omega), bI_ok (drop_ok (H := H + 2) x5 (by omega) (d' + 2)), m63 _ (by omega), r63'.2.2, bI_ok (drop_ok (H := H + 1) l1 (by omega) (d' + 2)), l4, bI_ok (drop_ok (H := H) l2 (by omega) (d' + 2)), l5]
          have ag7 : agC σ6 (wr (wr (wr σ6 62 11 (i32 (H + 2 : Nat))) 62 11 (i32 (H + 1 : Nat))) 62 11 (i32 H)) := ((agC.refl.wr rfl).wr rfl).wr rfl
          have oc7 : ∀ j i, ¬ (j = 62 ∧ i = 11) → rd (wr (wr (wr σ6 62 11 (i32 (H + 2 : Nat))) 62 11 (i32 (H + 1 : Nat))) 62 11 (i32 H)) j i = rd σ6 j i := fun j i hi => by
            rw [rd_wr, if_neg hi, rd_wr, if_neg hi, rd_wr, if_neg hi]
          generalize wr (wr (wr σ6 62 11 (i32 (H + 2 : Nat))) 62 11 (i32 (H + 1 : Nat))) 62 11 (i32 H) = σ7 at l3 ag7 oc7
          have hST7 : ST K1 K2 m μ g fc sc fs D H (n + 1) A3 P3 (r + 2) σ7 τ6 := z3.ag ag7 agM.refl (Nat.le_refl _) x8 x9 (by omega) x11 ((oc7 62 3 (by omega)).trans x1) x2 ((oc7 62 4 (by omega)).trans x3) x4 l3 x6 x7
          have hPT7 : ∀ {a b : Nat}, PT a b σ6 → PT a b σ7 := fun {a b} ⟨g1, g2, g3, g4, g5, g6⟩ => ⟨g1, (oc7 26 b (by omega)).trans g2, (oc7 24 b (by omega)).trans g3, (oc7 25 b (by omega)).trans g4, (oc7 23 b (by omega)).trans g5, ((oc7 28 b (by omega)).trans g6).trans (oc7 62 5 (by omega)).symm⟩
          obtain ⟨σ8, nC, hrun⟩ := pad2 (L := L) (xs := xs) (σ := σ7) (κ := 16) (x := 16) (P := P3) (c1 := P1 - 1) (c2 := P3 - 1) (s1 := P0) (s2 := P1) (f := i32 A0) (l := i32 (A3 - 1 : Nat)) (s := rd σ7 62 5) (r1 := 0) (r2 := 7) rfl ((oc7 15 13 (by omega)).trans c5) (by omega) (by omega) (by omega) (hPT7 hPT6).2.1 (hPT7 b8).2.1 (by have := hPT6.1; omega) (by omega) (by have := b8.1; omega) rfl rfl d'
          rw [show rd σ7 62 9 = i32 (A3 - 1 : Nat) from (oc7 62 9 (by omega)).trans b4]
          have e := hrun (fun a8 s10 => cond (pv_in a8 4101) (rn L xs (d' + 3 + 1) 125 59 [.ref 62, .int (i32 base), .int a8, .int (i32 A1), .int (i32 A0), .int (i32 (P1 - 1 : Nat)), .int a8] [] (wr (wr s10 19 (ix a8) (i32 A1)) 62 8 (i32 A0))) none)
          rw [c_in (by omega) (by omega) (by omega), i32_ixn (by omega)] at e
          have hsc : ∀ i, i ≠ 8 → rd (wr (wr σ8 19 P3 (i32 A1)) 62 8 (i32 A0)) 62 i = rd σ7 62 i := fun i hi => by rw [rd_wr, if_neg (by omega), wr_nek (by omega)]; exact nC.2.1 62 i rfl (by omega)
          obtain ⟨τ7, g1, g2, g3, g4⟩ := bin_ok (L := L) (xs := xs) (κ := 16) (X := 21) (A0 := A0) (A2 := A3) (P0 := P0) (P1 := P1) (p1 := P1 - 1) (p2 := P3 - 1) (H' := H) (n := n) (r := r) (σ1 := σ8) (σ' := wr (wr σ8 19 P3 (i32 A1)) 62 8 (i32 A0)) hST7 (hPT7 hPT6) (hPT7 b8) (by omega) (by omega) ((hold6.2.1 r (by omega) 135 (by omega) (by omega)).trans ((hr1 135 (by omega) (by omega)).trans t5)) b5 (fun _ => ⟨(hold6.2.1 r (by omega) 136 (by omega) (by omega)).trans ((hr1 136 (by omega) (by omega)).trans t6), b7⟩) (IT.old hold6 (by omega) i2) (by omega) (by omega) nC
            ⟨fun j i h1 h2 => by rw [rd_wr, if_neg (fun q => by rw [q.1, q.2] at h2; cases h2), rd_wr, if_neg (fun q => h1 ⟨q.2, Or.inl q.1⟩)], rfl⟩ (by rw [rd_wr, if_pos ⟨rfl, rfl⟩]) ((hsc 9 (by omega)).trans ((oc7 62 9 (by omega)).trans b4)) ((hsc 3 (by omega)).trans ((oc7 62 3 (by omega)).trans x1)) ((hsc 4 (by omega)).trans ((oc7 62 4 (by omega)).trans x3)) ((hsc 11 (by omega)).trans l3) (by omega) (fun i hi => by rw [rd_wr, if_neg (by omega), wr_nek (by omega)]; exact nC.2.1 63 i rfl (by omega)) ((hR3.join hold6 b1.2 (by omega)).to (fun q _ => oc7 17 q (by omega))) (fun _ => by rw [i32_ixn (by omega)]; omega) (Or.inr (Or.inl ⟨rfl, rfl, by rw [wr_nek (by omega), rd_wr, if_pos ⟨rfl, rfl⟩]⟩))
          refine Or.inl ⟨A3, P3 + 1, _, τ7, _, _, _, _, e, (hmS.trans (hmS3.trans (f2.trans (z2.trans g1)))), g2, g3, by omega, z6, ?_⟩
          have hold7 : OLD n r H P0 σ6 τ6 σ7 τ6 := ⟨fun _ _ _ _ _ => rfl, fun _ _ _ _ _ => rfl, fun i _ => oc7 63 i (by omega), fun p _ j h1 h2 => oc7 j p (by omega), fun v _ => ⟨by unfold rl; rw [ag7.2], oc7 31 v (by omega), oc7 32 v (by omega), oc7 33 v (by omega)⟩, by rw [oc7 15 19 (by omega)]; exact Nat.le_refl _, fun j _ i => by unfold rl; rw [ag7.2], OLX.of (fun j i h => oc7 j i (by omega)) (fun _ _ _ => rfl), MB.same (fun j i h => oc7 j i (by omega))⟩
          exact hold4.trans ((hold6.mono (by omega) (by omega) (by omega) (by omega)).trans (hold7.trans g4 (Nat.le_refl _) (Nat.le_refl _) (Nat.le_refl _) (Nat.le_refl _)) (Nat.le_refl _) (Nat.le_refl _) (Nat.le_refl _) (Nat.le_refl _)) (Nat.le_refl _) (Nat.le_refl _) (Nat.le_refl _) (Nat.le_refl _)
        · exact Or.inr (hF.pre (hmS.trans (hmS3.trans f2)))
      · rw [bI_ex f1]
        exact Or.inr ⟨σ0, τ0, k, p, rfl, f2, hmS.trans (hmS3.trans f3), f4⟩
    · rw [if_neg q] at hmS
      rw [decide_eq_false q, cond_false]
      exact Or.inl ⟨A1, P1, σ, _, _, _, _, _, rfl, hmS, hpop, hT.stay (fun _ _ _ => rfl) rfl rfl rfl (fun j h1 h2 => wr_nek (by omega)), hw, ha, OLD.refl.wrM (by omega)⟩
theorem chain_nt {B : Nat} (hp : NT L xs K1 K2 m μ g fc 5 126 2 10 [jv, jv, jv, jv] B) : NT L xs K1 K2 m μ g fc 3 125 1 11 [jv, jv, jv, jv, jv, jv] B := by
  intro sc fs D H n A P r σ τ d h hX hB hn hd
  obtain ⟨d, rfl⟩ : ∃ d', d = d' + 1 := ⟨d - 1, by omega⟩
  obtain ⟨o1, o2, o3, o4, o5, o6, ⟨s1, s2, s3, s4, s5, s6, s7, s8, s9, s10, s11, s12⟩, o8, o9, o10⟩ := h.all
  have hpop := h.pop
  have hmS : mS L xs τ (mPush (mPush (wr τ 123 18 (i32 n)) n 4 0 0) (n + 1) 5 0 0) := by
    refine nx s6 (by omega) o3 ⟨hX, rfl, rfl⟩ (pc := 204) (by decide +kernel) (fun dm => ?_)
    rw [e310_204 (dm + 7), bV_ok (mpush_ok (n := n) (by rw [rd_wr, if_pos ⟨rfl, rfl⟩]) (by omega) (dm + 6) _ _ _), bV_ok (mpush_ok (n := n + 1) mPush_come (by omega) (dm + 6) _ _ _), e310_362]
  refine OUTI.pre hmS ?_
  have h2 := (hpop.push (by omega) 4 0 0).push (by omega) 5 0 0
  have hold : OLD n r H P σ τ σ (mPush (mPush (wr τ 123 18 (i32 n)) n 4 0 0) (n + 1) 5 0 0) := ((OLD.refl.wrM (by omega)).push (by omega)).push (by omega)
  have i1 : IT (mPush (mPush (wr τ 123 18 (i32 n)) n 4 0 0) (n + 1) 5 0 0) (n + 1) 5 0 0 := IT.at rfl
  have i2 : IT (mPush (mPush (wr τ 123 18 (i32 n)) n 4 0 0) (n + 1) 5 0 0) n 4 0 0 := (IT.at rfl).push (by omega)
  generalize mPush (mPush (wr τ 123 18 (i32 n)) n 4 0 0) (n + 1) 5 0 0 = τ2 at h2 hold i1 i2
  rw [e125_0 d, s5]
  refine OUTI.bI (hp sc fs D H (n + 1) A P r σ τ2 d h2 i1.1 hB (by omega) (by omega)) (fun a σ1 τ1 hQ => ?_)
  obtain ⟨A1, P1, y1, y2, y3, y4, y5, y6⟩ := hQ
  subst y1
  rcases chain_loop hp (base := H) (d := d) (by omega) (m - A1 + 1) n r H A P A1 P1 σ1 τ1 _ _ _ _ (by omega) (Nat.le_refl _) s12 hB (by omega) y2 (IT.old y6 (by omega) i2).1 y3 y4 y5 with ⟨A3, P3, σ6, τ6, w3, w4, w5, w6, z1, z2, z3, z4, z5, z6, z7⟩ | hF
  · rw [z1]
    obtain ⟨c1, c2, c3, c4, c5, c6, ⟨x1, x2, x3, x4, x5, x6, x7, x8, x9, x10, x11, x12⟩, c8, c9, c10⟩ := z3.all
    rw [e125_59 d, x5, c2_le (by omega) (by omega) (by omega) (by omega), c_t (by omega), e125_154 d]
    exact Or.inl ⟨_, _, _, rfl, z2, A3, P3, rfl, z3, z4, z5, z6, hold.trans ((y6.mono (by omega) (by omega) (by omega) (by omega)).trans z7 (Nat.le_refl _) (Nat.le_refl _) (Nat.le_refl _) (Nat.le_refl _)) (Nat.le_refl _) (Nat.le_refl _) (Nat.le_refl _) (Nat.le_refl _)⟩
  · exact Or.inr hF
end CHAIN
