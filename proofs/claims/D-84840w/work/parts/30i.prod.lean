/-! READING: products, comparisons -/
section PRODS
variable {L : Nat} {xs : Nat → Int32} {K1 K2 m : Nat} {μ : Nat → Nat} {g fc : Nat}
theorem prod_loop {B : Nat} (hp : NT L xs K1 K2 m μ g fc 11 129 5 7 [jv, jv, jv, jv] B) {sc : List Nat} {fs : List (Nat × Nat × List Nat)} {D H n A0 P0 r d : Nat} (hP0 : P0 ≤ wch μ A0) (hB : m - A0 < B) (hn : n ≤ 8 * A0 + 4) (hd : 12 * (40 - D) + 20 + 7 ≤ d) : ∀ (b A1 P1 : Nat) (σ τ : tvS) (v2 v3 v4 : Value), m - A1 < b → ST K1 K2 m μ g fc sc fs D H (n + 1) A1 P1 (r + 1) σ τ → rd τ 132 n = i32 10 → TOP A0 P0 A1 P1 r σ τ → P1 + ach μ A0 + wch μ A0 ≤ P0 + wch μ A1 → aen (μ (A1 - 1)) = true →
    OUTI L xs K1 K2 τ (rn L xs (d + 1) 128 5 [.ref 62, .int (i32 (P1 - 1 : Nat)), v2, v3, v4] [] σ) (NTQ K1 K2 m μ g fc sc fs D H n r A0 P0 σ τ) := by
  intro b
  induction b with
  | zero => intro A1 P1 σ τ _ _ _ h; exact absurd h (Nat.not_lt_zero _)
  | succ b ih =>
    intro A1 P1 σ τ v2 v3 v4 hb h hX hT hw ha
    have hpop := h.pop
    have hmS := on_nx (L := L) (xs := xs) (X := 10) h hX (by omega) (fun d => on10 hpop d)
    refine OUTI.pre hmS ?_
    obtain ⟨o1, o2, o3, o4, o5, o6, ⟨s1, s2, s3, s4, s5, s6, s7, s8, s9, s10, s11, s12⟩, o8, o9, o10⟩ := h.all
    have hT' := hT
    obtain ⟨t1, t2, t3, t4, t5, t6, t7, u1, u2, u3, u4, u5, u6⟩ := hT'
    obtain ⟨d', rfl⟩ : ∃ d', d = d' + 2 := ⟨d - 2, by omega⟩
    by_cases q : μ A1 = 32 ∨ μ A1 = 33 ∨ μ A1 = 34
    · rw [if_pos q]
      have hlt := h.lt (by omega)
      have hST2 := hpop.two hlt (by omega) 10 (i32 (μ A1)) 11
      have hold2 : OLD n r H P0 σ τ (wr σ 62 3 (i32 (A1 + 1 : Nat))) (mTwo (wr τ 123 18 (i32 n)) n A1 10 (i32 (μ A1)) 11) := (OLD.refl.wrM (by omega)).two (by omega)
      obtain ⟨i1, i2, i3⟩ := mTwo_it (τ := wr τ 123 18 (i32 n)) (n := n) (A := A1) (on := 10) (sg := i32 (μ A1)) (opd := 11) (X := 11) (O := 10) rfl rfl
      have hr1 : ∀ j, 135 ≤ j → j ≤ 137 → rd (mTwo (wr τ 123 18 (i32 n)) n A1 10 (i32 (μ A1)) 11) j r = rd τ j r := fun j h1 h2 => (mTwo_oth (by omega) (by omega)).trans (wr_nek (by omega))
      generalize mTwo (wr τ 123 18 (i32 n)) n A1 10 (i32 (μ A1)) 11 = τ2 at hST2 hold2 i1 i2 i3 hr1
      have hgo : ∀ (κ : Nat) (x : Int32), x = i32 κ → κ = 10 ∧ μ A1 = 32 ∨ κ = 11 ∧ μ A1 = 33 ∨ κ = 12 ∧ μ A1 = 34 → ∀ v2 v3 v4, OUTI L xs K1 K2 τ2 (rn L xs (d' + 2 + 1) 128 62 [.ref 62, .int (i32 (P1 - 1 : Nat)), v2, v3, v4] [.int x] σ) (NTQ K1 K2 m μ g fc sc fs D H n r A0 P0 σ τ) := by
        intro κ x hx hκ v2 v3 v4
        rw [e128_62 (d' + 2), s1, i32_n1, t3]
        have hμ : μ A1 = opS κ := by rcases hκ with ⟨e1, e2⟩ | ⟨e1, e2⟩ | ⟨e1, e2⟩ <;> rw [e2, e1] <;> rfl
        refine oper (κ := κ) (A0 := A0) (A1 := A1) (P0 := P0) (P1 := P1) (nn := n + 1) hp hST2 ⟨u1, (wr_nek (by omega)).trans u2, (wr_nek (by omega)).trans u3, (wr_nek (by omega)).trans u4, (wr_nek (by omega)).trans u5, u6⟩ (t1.2.to (fun q _ => wr_nek (by omega))) t2 (by omega) ((hr1 135 (by omega) (by omega)).trans t5) ((hr1 136 (by omega) (by omega)).trans t6) (by rw [← hμ]; exact i2) i1 (by omega) (by omega) (by omega) (by omega) (by omega) hx hμ hP0 hw
          (fun a2 a4 s3 => rn L xs (d' + 2 + 1) 128 5 [.ref 62, .int a4, .int x, .int (i32 A0), .int a2] [] s3) (fun a2 A2 P2 σ' τ' c1 c2 c3 c4 c5 c6 => ?_)
        refine OUTI.mono (ih A2 P2 σ' τ' _ _ _ (by omega) c2 (IT.old c6 (by omega) i3).1 c3 c4 c5) (fun a σ'' τ'' hQ => ?_)
        obtain ⟨A3, P3, y1, y2, y3, y4, y5, y6⟩ := hQ
        exact ⟨A3, P3, y1, y2, y3, y4, y5, hold2.trans ((c6.mono (by omega) (by omega) (by omega) (by omega)).trans y6 (Nat.le_refl _) (Nat.le_refl _) (Nat.le_refl _) (Nat.le_refl _)) (Nat.le_refl _) (Nat.le_refl _) (Nat.le_refl _) (Nat.le_refl _)⟩
      have e32 : ∀ v2 v3 v4, OUTI L xs K1 K2 τ2 (rn L xs (d' + 2 + 1) 128 32 [.ref 62, .int (i32 (P1 - 1 : Nat)), v2, v3, v4] [] σ) (NTQ K1 K2 m μ g fc sc fs D H n r A0 P0 σ τ) := by
        intro v2 v3 v4
        rw [e128_32 (d' + 2), bI_ok (h.sg (x := 42) (k := 32) rfl (by omega) (by omega) d'), c1_eq_bN]
        by_cases q1 : μ A1 = 32
        · rw [decide_eq_true q1, cond_true]
          exact hgo 10 10 rfl (Or.inl ⟨rfl, q1⟩) _ _ _
        · rw [decide_eq_false q1, cond_false, e128_46 (d' + 2), bI_ok (h.sg (x := 47) (k := 33) rfl (by omega) (by omega) d'), c1_eq_bN]
          by_cases q2 : μ A1 = 33
          · rw [decide_eq_true q2, cond_true]
            exact hgo 11 11 rfl (Or.inr (Or.inl ⟨rfl, q2⟩)) _ _ _
          · rw [decide_eq_false q2, cond_false, e128_60 (d' + 2)]
            exact hgo 12 12 rfl (Or.inr (Or.inr ⟨rfl, by omega⟩)) _ _ _
      rw [e128_5 (d' + 2), bI_ok (h.sg (x := 42) (k := 32) rfl (by omega) (by omega) d'), c1_ne_bN]
      by_cases q1 : μ A1 = 32
      · rw [decide_eq_true q1, cond_true]
        exact e32 _ _ _
      · rw [decide_eq_false q1, cond_false, bI_ok (h.sg (x := 47) (k := 33) rfl (by omega) (by omega) d'), c1_ne_bN]
        by_cases q2 : μ A1 = 33
        · rw [decide_eq_true q2, cond_true]
          exact e32 _ _ _
        · rw [decide_eq_false q2, cond_false, bI_ok (h.sg (x := 37) (k := 34) rfl (by omega) (by omega) d'), c1_eq_bN, decide_eq_true (by omega), cond_true]
          exact e32 _ _ _
    · rw [if_neg q, e128_5 (d' + 2), bI_ok (h.sg (x := 42) (k := 32) rfl (by omega) (by omega) d'), c1_ne_bN, decide_eq_false (by omega), cond_false, bI_ok (h.sg (x := 47) (k := 33) rfl (by omega) (by omega) d'), c1_ne_bN, decide_eq_false (by omega), cond_false, bI_ok (h.sg (x := 37) (k := 34) rfl (by omega) (by omega) d'), c1_eq_bN, decide_eq_false (by omega), cond_false, e128_97 (d' + 2)]
      exact OUTI.fin ⟨A1, P1, rfl, hpop, hT.stay (fun _ _ _ => rfl) rfl rfl rfl (fun j h1 h2 => wr_nek (by omega)), hw, ha, OLD.refl.wrM (by omega)⟩ rfl
theorem prod_nt {B : Nat} (hp : NT L xs K1 K2 m μ g fc 11 129 5 7 [jv, jv, jv, jv] B) : NT L xs K1 K2 m μ g fc 9 128 4 8 [jv, jv, jv, jv] B := by
  intro sc fs D H n A P r σ τ d h hX hB hn hd
  obtain ⟨d, rfl⟩ : ∃ d', d = d' + 1 := ⟨d - 1, by omega⟩
  obtain ⟨o1, o2, o3, o4, o5, o6, ⟨s1, s2, s3, s4, s5, s6, s7, s8, s9, s10, s11, s12⟩, o8, o9, o10⟩ := h.all
  have hpop := h.pop
  have hmS : mS L xs τ (mPush (mPush (wr τ 123 18 (i32 n)) n 10 0 0) (n + 1) 11 0 0) := by
    refine nx s6 (by omega) o3 ⟨hX, rfl, rfl⟩ (pc := 259) (by decide +kernel) (fun dm => ?_)
    rw [e310_259 (dm + 7), bV_ok (mpush_ok (n := n) (by rw [rd_wr, if_pos ⟨rfl, rfl⟩]) (by omega) (dm + 6) _ _ _), bV_ok (mpush_ok (n := n + 1) mPush_come (by omega) (dm + 6) _ _ _), e310_362]
  refine OUTI.pre hmS ?_
  have h2 := (hpop.push (by omega) 10 0 0).push (by omega) 11 0 0
  have hold : OLD n r H P σ τ σ (mPush (mPush (wr τ 123 18 (i32 n)) n 10 0 0) (n + 1) 11 0 0) := ((OLD.refl.wrM (by omega)).push (by omega)).push (by omega)
  have i1 : IT (mPush (mPush (wr τ 123 18 (i32 n)) n 10 0 0) (n + 1) 11 0 0) (n + 1) 11 0 0 := IT.at rfl
  have i2 : IT (mPush (mPush (wr τ 123 18 (i32 n)) n 10 0 0) (n + 1) 11 0 0) n 10 0 0 := (IT.at rfl).push (by omega)
  generalize mPush (mPush (wr τ 123 18 (i32 n)) n 10 0 0) (n + 1) 11 0 0 = τ2 at h2 hold i1 i2
  rw [e128_0 d]
  refine OUTI.bI (hp sc fs D H (n + 1) A P r σ τ2 d h2 i1.1 hB (by omega) (by omega)) (fun a σ1 τ1 hQ => ?_)
  obtain ⟨A1, P1, y1, y2, y3, y4, y5, y6⟩ := hQ
  subst y1
  refine OUTI.mono (prod_loop hp s12 hB (by omega) (by omega) (m - A1 + 1) A1 P1 σ1 τ1 _ _ _ (by omega) y2 (IT.old y6 (by omega) i2).1 y3 y4 y5) (fun a σ'' τ'' hQ => ?_)
  obtain ⟨A3, P3, z1, z2, z3, z4, z5, z6⟩ := hQ
  exact ⟨A3, P3, z1, z2, z3, z4, z5, hold.trans ((y6.mono (by omega) (by omega) (by omega) (by omega)).trans z6 (Nat.le_refl _) (Nat.le_refl _) (Nat.le_refl _) (Nat.le_refl _)) (Nat.le_refl _) (Nat.le_refl _) (Nat.le_refl _) (Nat.le_refl _)⟩
theorem comp_nt {B : Nat} (hp : NT L xs K1 K2 m μ g fc 7 127 3 9 [jv, jv, jv, jv] B) : NT L xs K1 K2 m μ g fc 5 126 2 10 [jv, jv, jv, jv] B := by
  intro sc fs D H n A P r σ τ d h hX hB hn hd
  obtain ⟨d, rfl⟩ : ∃ d', d = d' + 3 := ⟨d - 3, by omega⟩
  obtain ⟨o1, o2, o3, o4, o5, o6, ⟨s1, s2, s3, s4, s5, s6, s7, s8, s9, s10, s11, s12⟩, o8, o9, o10⟩ := h.all
  have hpop := h.pop
  have hmS : mS L xs τ (mPush (mPush (wr τ 123 18 (i32 n)) n 6 0 0) (n + 1) 7 0 0) := by
    refine nx s6 (by omega) o3 ⟨hX, rfl, rfl⟩ (pc := 221) (by decide +kernel) (fun dm => ?_)
    rw [e310_221 (dm + 7), bV_ok (mpush_ok (n := n) (by rw [rd_wr, if_pos ⟨rfl, rfl⟩]) (by omega) (dm + 6) _ _ _), bV_ok (mpush_ok (n := n + 1) mPush_come (by omega) (dm + 6) _ _ _), e310_362]
  refine OUTI.pre hmS ?_
  have h2 := (hpop.push (by omega) 6 0 0).push (by omega) 7 0 0
  have hold : OLD n r H P σ τ σ (mPush (mPush (wr τ 123 18 (i32 n)) n 6 0 0) (n + 1) 7 0 0) := ((OLD.refl.wrM (by omega)).push (by omega)).push (by omega)
  have i1 : IT (mPush (mPush (wr τ 123 18 (i32 n)) n 6 0 0) (n + 1) 7 0 0) (n + 1) 7 0 0 := IT.at rfl
  have i2 : IT (mPush (mPush (wr τ 123 18 (i32 n)) n 6 0 0) (n + 1) 7 0 0) n 6 0 0 := (IT.at rfl).push (by omega)
  generalize mPush (mPush (wr τ 123 18 (i32 n)) n 6 0 0) (n + 1) 7 0 0 = τ2 at h2 hold i1 i2
  rw [e126_0 (d + 2)]
  refine OUTI.bI (hp sc fs D H (n + 1) A P r σ τ2 (d + 2) h2 i1.1 hB (by omega) (by omega)) (fun a σ1 τ1 hQ => ?_)
  obtain ⟨A1, P1, y1, y2, y3, y4, y5, y6⟩ := hQ
  subst y1
  have hpop1 := y2.pop
  have hmS1 := on_nx (L := L) (xs := xs) (X := 6) y2 (IT.old y6 (by omega) i2).1 (by omega) (fun d => on6 hpop1 d)
  refine OUTI.pre hmS1 ?_
  have hT' := y3
  obtain ⟨t1, t2, t3, t4, t5, t6, t7, u1, u2, u3, u4, u5, u6⟩ := hT'
  obtain ⟨p1, p2, p3, p4, p5, p6, ⟨r1, r2, r3, r4, r5, r6, r7, r8, r9, r10, r11, r12⟩, p8, p9, p10⟩ := y2.all
  by_cases q : μ A1 = 21 ∨ μ A1 = 29 ∨ μ A1 = 22
  · rw [if_pos q]
    have hlt := y2.lt (by omega)
    have hST2 := ((hpop1.at1 hlt).push (by omega) 20 (i32 (μ A1)) 0).push (by omega) 7 0 0
    have hold2 : OLD n r H P σ1 τ1 (wr σ1 62 3 (i32 (A1 + 1 : Nat))) (mPush (mPush (wr (wr τ1 123 18 (i32 n)) 123 17 (i32 (A1 + 1 : Nat))) n 20 (i32 (μ A1)) 0) (n + 1) 7 0 0) := ((((OLD.refl.wrC (Or.inl rfl)).wrM (by omega)).wrM (by omega)).push (by omega)).push (by omega)
    have j1 : IT (mPush (mPush (wr (wr τ1 123 18 (i32 n)) 123 17 (i32 (A1 + 1 : Nat))) n 20 (i32 (μ A1)) 0) (n + 1) 7 0 0) (n + 1) 7 0 0 := IT.at rfl
    have j2 : IT (mPush (mPush (wr (wr τ1 123 18 (i32 n)) 123 17 (i32 (A1 + 1 : Nat))) n 20 (i32 (μ A1)) 0) (n + 1) 7 0 0) n 20 (i32 (μ A1)) 0 := (IT.at rfl).push (by omega)
    have hr1 : ∀ j, 135 ≤ j → j ≤ 137 → rd (mPush (mPush (wr (wr τ1 123 18 (i32 n)) 123 17 (i32 (A1 + 1 : Nat))) n 20 (i32 (μ A1)) 0) (n + 1) 7 0 0) j r = rd τ1 j r := fun j h1 h2 => (mPush_oth (by omega) (by omega)).trans ((mPush_oth (by omega) (by omega)).trans ((wr_nek (by omega)).trans (wr_nek (by omega))))
    generalize mPush (mPush (wr (wr τ1 123 18 (i32 n)) 123 17 (i32 (A1 + 1 : Nat))) n 20 (i32 (μ A1)) 0) (n + 1) 7 0 0 = τ3 at hST2 hold2 j1 j2 hr1
    have hgo : ∀ (κ : Nat) (x : Int32), x = i32 κ → κ = 13 ∧ μ A1 = 21 ∨ κ = 14 ∧ μ A1 = 29 ∨ κ = 15 ∧ μ A1 = 22 → ∀ v2 v3 v4, OUTI L xs K1 K2 τ3 (rn L xs (d + 2 + 1) 126 50 [.ref 62, .int (i32 (P1 - 1 : Nat)), v2, v3, v4] [.int x] σ1) (NTQ K1 K2 m μ g fc sc fs D H n r A P σ τ) := by
      intro κ x hx hκ v2 v3 v4
      have hμ : μ A1 = opS κ := by rcases hκ with ⟨e1, e2⟩ | ⟨e1, e2⟩ | ⟨e1, e2⟩ <;> rw [e2, e1] <;> rfl
      rw [e126_50 (d + 2), hx, i32_raw, c2_ne (by omega) (by omega) (by omega) (by omega), c_t (by omega), e126_58 (d + 2), r1, i32_n1, t3]
      refine oper (κ := κ) (A0 := A) (A1 := A1) (P0 := P) (P1 := P1) (nn := n) hp hST2 ⟨u1, (wr_nek (by omega)).trans u2, (wr_nek (by omega)).trans u3, (wr_nek (by omega)).trans u4, (wr_nek (by omega)).trans u5, u6⟩ (t1.2.to (fun q _ => wr_nek (by omega))) t2 (by omega) ((hr1 135 (by omega) (by omega)).trans t5) ((hr1 136 (by omega) (by omega)).trans t6) (by rw [← hμ]; exact j2) j1.1 (by omega) (by omega) (by omega) (by omega) (by omega) rfl hμ s12 y4
        (fun a2 a4 s3 => some (.inl (some (.int a4)), s3)) (fun a2 A2 P2 σ' τ' c1 c2 c3 c4 c5 c6 => ?_)
      exact OUTI.fin ⟨A2, P2, rfl, c2, c3, c4, c5, hold.trans ((y6.mono (by omega) (by omega) (by omega) (by omega)).trans (hold2.trans c6 (Nat.le_refl _) (Nat.le_refl _) (Nat.le_refl _) (Nat.le_refl _)) (Nat.le_refl _) (Nat.le_refl _) (Nat.le_refl _) (Nat.le_refl _)) (Nat.le_refl _) (Nat.le_refl _) (Nat.le_refl _) (Nat.le_refl _)⟩ rfl
    rw [bI_ok (y2.sg (x := 257) (k := 21) rfl (by omega) (by omega) d), c1_eq_bN]
    by_cases q1 : μ A1 = 21
    · rw [decide_eq_true q1, cond_true]
      exact hgo 13 13 rfl (Or.inl ⟨rfl, q1⟩) _ _ _
    · rw [decide_eq_false q1, cond_false, e126_20 (d + 2), bI_ok (y2.sg (x := 60) (k := 29) rfl (by omega) (by omega) d), c1_eq_bN]
      by_cases q2 : μ A1 = 29
      · rw [decide_eq_true q2, cond_true]
        exact hgo 14 14 rfl (Or.inr (Or.inl ⟨rfl, q2⟩)) _ _ _
      · rw [decide_eq_false q2, cond_false, e126_34 (d + 2), bI_ok (y2.sg (x := 258) (k := 22) rfl (by omega) (by omega) d), c1_eq_bN, decide_eq_true (by omega), cond_true]
        exact hgo 15 15 rfl (Or.inr (Or.inr ⟨rfl, by omega⟩)) _ _ _
  · rw [if_neg q, bI_ok (y2.sg (x := 257) (k := 21) rfl (by omega) (by omega) d), c1_eq_bN, decide_eq_false (by omega), cond_false, e126_20 (d + 2), bI_ok (y2.sg (x := 60) (k := 29) rfl (by omega) (by omega) d), c1_eq_bN, decide_eq_false (by omega), cond_false, e126_34 (d + 2), bI_ok (y2.sg (x := 258) (k := 22) rfl (by omega) (by omega) d), c1_eq_bN, decide_eq_false (by omega), cond_false, e126_49 (d + 2), e126_50 (d + 2), i32_raw, c2_ne (by omega) (by omega) (by omega) (by omega), c_f (by omega)]
    exact OUTI.fin ⟨A1, P1, rfl, hpop1, y3.stay (fun _ _ _ => rfl) rfl rfl rfl (fun j h1 h2 => wr_nek (by omega)), y4, y5, hold.trans ((y6.mono (by omega) (by omega) (by omega) (by omega)).trans (OLD.refl.wrM (by omega)) (Nat.le_refl _) (Nat.le_refl _) (Nat.le_refl _) (Nat.le_refl _)) (Nat.le_refl _) (Nat.le_refl _) (Nat.le_refl _) (Nat.le_refl _)⟩ rfl
end PRODS
