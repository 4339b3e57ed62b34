/-! READING: sums, products, comparisons -/
section SUMS
variable {L : Nat} {xs : Nat → Int32} {K1 K2 m : Nat} {μ : Nat → Nat} {g fc : Nat}
theorem mTwo_it {τ : tvS} {n A : Nat} {on sg opd : Int32} {X : Nat} (hX : opd = i32 X) {O : Nat} (hO : on = i32 O) : rd (mTwo τ n A on sg opd) 132 (n + 2) = i32 X ∧ IT (mTwo τ n A on sg opd) (n + 1) 20 sg 0 ∧ IT (mTwo τ n A on sg opd) n O 0 0 := by
  unfold mTwo
  exact ⟨(IT.at hX).1, (IT.at rfl).push (by omega), ((IT.at hO).push (by omega)).push (by omega)⟩
theorem mTwo_oth {τ : tvS} {n A : Nat} {on sg opd : Int32} {j i : Nat} (hj : j < 132 ∨ 134 < j) (h : j ≠ 123) : rd (mTwo τ n A on sg opd) j i = rd τ j i := by
  unfold mTwo
  rw [mPush_oth hj (by omega), mPush_oth hj (by omega), mPush_oth hj (by omega), wr_nek h]
theorem ST.two {sc : List Nat} {fs : List (Nat × Nat × List Nat)} {D H n A P r : Nat} {σ τ : tvS} (h : ST K1 K2 m μ g fc sc fs D H n A P r σ τ) (hA : A < m) (hn : n + 3 ≤ 8 * (A + 1) + 20) (on sg opd : Int32) : ST K1 K2 m μ g fc sc fs D H (n + 3) (A + 1) P r (wr σ 62 3 (i32 (A + 1 : Nat))) (mTwo τ n A on sg opd) := ((((h.at1 hA).push (by omega) _ _ _).push (by omega) _ _ _).push (by omega) _ _ _)
theorem OLD.two {n r H P n' A : Nat} {σ τ σ' τ' : tvS} (h : OLD n r H P σ τ σ' τ') (hn : n ≤ n') {on sg opd x : Int32} : OLD n r H P σ τ (wr σ' 62 3 x) (mTwo τ' n' A on sg opd) := ((((h.wrC (Or.inl rfl)).wrM (by omega)).push hn).push (by omega)).push (by omega)
theorem TOP.stay {A P A' P' r : Nat} {σ τ σ' τ' : tvS} (h : TOP A P A' P' r σ τ) (h1 : ∀ j, j < 62 → ∀ i, rd σ' j i = rd σ j i) (h2 : rd σ' 62 8 = rd σ 62 8) (h3 : rd σ' 62 9 = rd σ 62 9) (h5 : rd σ' 62 5 = rd σ 62 5) (h4 : ∀ j, 135 ≤ j → j ≤ 137 → rd τ' j r = rd τ j r) : TOP A P A' P' r σ' τ' := by
  obtain ⟨t1, t2, t3, t4, t5, t6, t7, u1, u2, u3, u4, u5, u6⟩ := h
  exact ⟨⟨t1.1, t1.2.to (fun q _ => h1 17 (by omega) q)⟩, t2, h2.trans t3, h3.trans t4, (h4 135 (by omega) (by omega)).trans t5, (h4 136 (by omega) (by omega)).trans t6, (h4 137 (by omega) (by omega)).trans t7, u1, (h1 26 (by omega) _).trans u2, (h1 24 (by omega) _).trans u3, (h1 25 (by omega) _).trans u4, (h1 23 (by omega) _).trans u5, ((h1 28 (by omega) _).trans u6).trans h5.symm⟩
theorem sum_loop {B : Nat} (hp : NT L xs K1 K2 m μ g fc 9 128 4 8 [jv, jv, jv, jv] B) {sc : List Nat} {fs : List (Nat × Nat × List Nat)} {D H n A0 P0 r d : Nat} (hP0 : P0 ≤ wch μ A0) (hB : m - A0 < B) (hn : n ≤ 8 * A0 + 3) (hd : 12 * (40 - D) + 20 + 8 ≤ d) : ∀ (b A1 P1 : Nat) (σ τ : tvS) (v2 v3 v4 : Value), m - A1 < b → ST K1 K2 m μ g fc sc fs D H (n + 1) A1 P1 (r + 1) σ τ → rd τ 132 n = i32 8 → TOP A0 P0 A1 P1 r σ τ → P1 + ach μ A0 + wch μ A0 ≤ P0 + wch μ A1 → aen (μ (A1 - 1)) = true →
    OUTI L xs K1 K2 τ (rn L xs (d + 1) 127 5 [.ref 62, .int (i32 (P1 - 1 : Nat)), v2, v3, v4] [] σ) (NTQ K1 K2 m μ g fc sc fs D H n r A0 P0 σ τ) := by
  intro b
  induction b with
  | zero => intro A1 P1 σ τ _ _ _ h; exact absurd h (Nat.not_lt_zero _)
  | succ b ih =>
    intro A1 P1 σ τ v2 v3 v4 hb h hX hT hw ha
    have hpop := h.pop
    have hmS := on_nx (L := L) (xs := xs) (X := 8) h hX (by omega) (fun d => on8 hpop d)
    refine OUTI.pre hmS ?_
    obtain ⟨o1, o2, o3, o4, o5, o6, ⟨s1, s2, s3, s4, s5, s6, s7, s8, s9, s10, s11, s12⟩, o8, o9, o10⟩ := h.all
    have hT' := hT
    obtain ⟨t1, t2, t3, t4, t5, t6, t7, u1, u2, u3, u4, u5, u6⟩ := hT'
    obtain ⟨d', rfl⟩ : ∃ d', d = d' + 2 := ⟨d - 2, by omega⟩
    by_cases q : μ A1 = 30 ∨ μ A1 = 31
    · rw [if_pos q]
      have hlt := h.lt (by omega)
      have hST2 := hpop.two hlt (by omega) 8 (i32 (μ A1)) 9
      have hold2 : OLD n r H P0 σ τ (wr σ 62 3 (i32 (A1 + 1 : Nat))) (mTwo (wr τ 123 18 (i32 n)) n A1 8 (i32 (μ A1)) 9) := (OLD.refl.wrM (by omega)).two (by omega)
      obtain ⟨i1, i2, i3⟩ := mTwo_it (τ := wr τ 123 18 (i32 n)) (n := n) (A := A1) (on := 8) (sg := i32 (μ A1)) (opd := 9) (X := 9) (O := 8) rfl rfl
      have hr1 : ∀ j, 135 ≤ j → j ≤ 137 → rd (mTwo (wr τ 123 18 (i32 n)) n A1 8 (i32 (μ A1)) 9) j r = rd τ j r := fun j h1 h2 => (mTwo_oth (by omega) (by omega)).trans (wr_nek (by omega))
      generalize mTwo (wr τ 123 18 (i32 n)) n A1 8 (i32 (μ A1)) 9 = τ2 at hST2 hold2 i1 i2 i3 hr1
      have hgo : ∀ (κ : Nat) (x : Int32), x = i32 κ → κ = 8 ∧ μ A1 = 30 ∨ κ = 9 ∧ μ A1 = 31 → ∀ v2 v3 v4, OUTI L xs K1 K2 τ2 (rn L xs (d' + 2 + 1) 127 39 [.ref 62, .int (i32 (P1 - 1 : Nat)), v2, v3, v4] [.int x] σ) (NTQ K1 K2 m μ g fc sc fs D H n r A0 P0 σ τ) := by
        intro κ x hx hκ v2 v3 v4
        rw [e127_39 (d' + 2), s1, i32_n1, t3]
        have hμ : μ A1 = opS κ := by rcases hκ with ⟨e1, e2⟩ | ⟨e1, e2⟩ <;> rw [e2, e1] <;> rfl
        refine oper (κ := κ) (A0 := A0) (A1 := A1) (P0 := P0) (P1 := P1) (nn := n + 1) hp hST2 ⟨u1, (wr_nek (by omega)).trans u2, (wr_nek (by omega)).trans u3, (wr_nek (by omega)).trans u4, (wr_nek (by omega)).trans u5, u6⟩ (t1.2.to (fun q _ => wr_nek (by omega))) t2 (by omega) ((hr1 135 (by omega) (by omega)).trans t5) ((hr1 136 (by omega) (by omega)).trans t6) (by rw [← hμ]; exact i2) i1 (by omega) (by omega) (by omega) (by omega) (by omega) hx hμ hP0 hw
          (fun a2 a4 s3 => rn L xs (d' + 2 + 1) 127 5 [.ref 62, .int a4, .int x, .int (i32 A0), .int a2] [] s3) (fun a2 A2 P2 σ' τ' c1 c2 c3 c4 c5 c6 => ?_)
        refine OUTI.mono (ih A2 P2 σ' τ' _ _ _ (by omega) c2 (IT.old c6 (by omega) i3).1 c3 c4 c5) (fun a σ'' τ'' hQ => ?_)
        obtain ⟨A3, P3, y1, y2, y3, y4, y5, y6⟩ := hQ
        exact ⟨A3, P3, y1, y2, y3, y4, y5, hold2.trans ((c6.mono (by omega) (by omega) (by omega) (by omega)).trans y6 (Nat.le_refl _) (Nat.le_refl _) (Nat.le_refl _) (Nat.le_refl _)) (Nat.le_refl _) (Nat.le_refl _) (Nat.le_refl _) (Nat.le_refl _)⟩
      have e23 : ∀ v2 v3 v4, OUTI L xs K1 K2 τ2 (rn L xs (d' + 2 + 1) 127 23 [.ref 62, .int (i32 (P1 - 1 : Nat)), v2, v3, v4] [] σ) (NTQ K1 K2 m μ g fc sc fs D H n r A0 P0 σ τ) := by
        intro v2 v3 v4
        rw [e127_23 (d' + 2), bI_ok (h.sg (x := 43) (k := 30) rfl (by omega) (by omega) d'), c1_eq_bN]
        by_cases q1 : μ A1 = 30
        · rw [decide_eq_true q1, cond_true]
          exact hgo 8 8 rfl (Or.inl ⟨rfl, q1⟩) _ _ _
        · rw [decide_eq_false q1, cond_false, e127_37 (d' + 2)]
          exact hgo 9 9 rfl (Or.inr ⟨rfl, by omega⟩) _ _ _
      rw [e127_5 (d' + 2), bI_ok (h.sg (x := 43) (k := 30) rfl (by omega) (by omega) d'), c1_ne_bN]
      by_cases q1 : μ A1 = 30
      · rw [decide_eq_true q1, cond_true]
        exact e23 _ _ _
      · rw [decide_eq_false q1, cond_false, bI_ok (h.sg (x := 45) (k := 31) rfl (by omega) (by omega) d'), c1_eq_bN, decide_eq_true (by omega), cond_true]
        exact e23 _ _ _
    · rw [if_neg q, e127_5 (d' + 2), bI_ok (h.sg (x := 43) (k := 30) rfl (by omega) (by omega) d'), c1_ne_bN, decide_eq_false (by omega), cond_false, bI_ok (h.sg (x := 45) (k := 31) rfl (by omega) (by omega) d'), c1_eq_bN, decide_eq_false (by omega), cond_false, e127_74 (d' + 2)]
      exact OUTI.fin ⟨A1, P1, rfl, hpop, hT.stay (fun _ _ _ => rfl) rfl rfl rfl (fun j h1 h2 => wr_nek (by omega)), hw, ha, OLD.refl.wrM (by omega)⟩ rfl
theorem sum_nt {B : Nat} (hp : NT L xs K1 K2 m μ g fc 9 128 4 8 [jv, jv, jv, jv] B) : NT L xs K1 K2 m μ g fc 7 127 3 9 [jv, jv, jv, jv] B := by
  intro sc fs D H n A P r σ τ d h hX hB hn hd
  obtain ⟨d, rfl⟩ : ∃ d', d = d' + 1 := ⟨d - 1, by omega⟩
  obtain ⟨o1, o2, o3, o4, o5, o6, ⟨s1, s2, s3, s4, s5, s6, s7, s8, s9, s10, s11, s12⟩, o8, o9, o10⟩ := h.all
  have hpop := h.pop
  have hmS : mS L xs τ (mPush (mPush (wr τ 123 18 (i32 n)) n 8 0 0) (n + 1) 9 0 0) := by
    refine nx s6 (by omega) o3 ⟨hX, rfl, rfl⟩ (pc := 240) (by decide +kernel) (fun dm => ?_)
    rw [e310_240 (dm + 7), bV_ok (mpush_ok (n := n) (by rw [rd_wr, if_pos ⟨rfl, rfl⟩]) (by omega) (dm + 6) _ _ _), bV_ok (mpush_ok (n := n + 1) mPush_come (by omega) (dm + 6) _ _ _), e310_362]
  refine OUTI.pre hmS ?_
  have h2 := (hpop.push (by omega) 8 0 0).push (by omega) 9 0 0
  have hold : OLD n r H P σ τ σ (mPush (mPush (wr τ 123 18 (i32 n)) n 8 0 0) (n + 1) 9 0 0) := ((OLD.refl.wrM (by omega)).push (by omega)).push (by omega)
  have i1 : IT (mPush (mPush (wr τ 123 18 (i32 n)) n 8 0 0) (n + 1) 9 0 0) (n + 1) 9 0 0 := IT.at rfl
  have i2 : IT (mPush (mPush (wr τ 123 18 (i32 n)) n 8 0 0) (n + 1) 9 0 0) n 8 0 0 := (IT.at rfl).push (by omega)
  generalize mPush (mPush (wr τ 123 18 (i32 n)) n 8 0 0) (n + 1) 9 0 0 = τ2 at h2 hold i1 i2
  rw [e127_0 d]
  refine OUTI.bI (hp sc fs D H (n + 1) A P r σ τ2 d h2 i1.1 hB (by omega) (by omega)) (fun a σ1 τ1 hQ => ?_)
  obtain ⟨A1, P1, y1, y2, y3, y4, y5, y6⟩ := hQ
  subst y1
  refine OUTI.mono (sum_loop hp s12 hB (by omega) (by omega) (m - A1 + 1) A1 P1 σ1 τ1 _ _ _ (by omega) y2 (IT.old y6 (by omega) i2).1 y3 y4 y5) (fun a σ'' τ'' hQ => ?_)
  obtain ⟨A3, P3, z1, z2, z3, z4, z5, z6⟩ := hQ
  exact ⟨A3, P3, z1, z2, z3, z4, z5, hold.trans ((y6.mono (by omega) (by omega) (by omega) (by omega)).trans z6 (Nat.le_refl _) (Nat.le_refl _) (Nat.le_refl _) (Nat.le_refl _)) (Nat.le_refl _) (Nat.le_refl _) (Nat.le_refl _) (Nat.le_refl _)⟩
end SUMS
