/-! READING: applications -/
section APPL
variable {L : Nat} {xs : Nat → Int32} {K1 K2 m : Nat} {μ : Nat → Nat} {g fc : Nat} {sc : List Nat} {fs : List (Nat × Nat × List Nat)} {D H n A P r : Nat} {σ τ : tvS}
theorem ST.ck (h : ST K1 K2 m μ g fc sc fs D H n A P r σ τ) (d : Nat) : rn L xs (d + 1) 57 0 [.ref 6, .int (rd σ 62 3)] [] σ = some (.inl (some (.int (rd σ 10 A))), σ) := by
  obtain ⟨o1, o2, o3, o4, o5, o6, ⟨s1, s2, s3, s4, s5, s6, s7, s8, s9, s10, s11, s12⟩, o8, o9, o10⟩ := h.all
  rw [s1, e57_0, c_in (by omega) (by omega) (by omega), i32_ixn (by omega)]
theorem ST.kn (h : ST K1 K2 m μ g fc sc fs D H n A P r σ τ) : pv_c2 .eq (rd σ 10 A) 2 = decide (μ A = 2) ∧ pv_c2 .eq (rd σ 10 A) 1 = decide (μ A = 1) ∧ pv_c1 .eq (rd σ 10 A) = decide (μ A = 36) := by
  obtain ⟨o1, o2, o3, o4, o5, o6, ⟨s1, s2, s3, s4, s5, s6, s7, s8, s9, s10, s11, s12⟩, o8, o9, o10⟩ := h.all
  rw [← o2]
  exact ⟨ck_num o1 s8, ck_name o1 s8, ck_end o1 s8⟩
theorem isAt (h : ST K1 K2 m μ g fc sc fs D H n A P r σ τ) (d : Nat) : rn L xs (d + 3) 137 0 [.ref 62] [] σ = some (.inl (some (.int (bN (ast (μ A))))), σ) := by
  have h36 := h.mu36
  obtain ⟨k1, k2, _⟩ := h.kn
  have e66 : ∀ v0, rn L xs (d + 3) 137 66 [v0] [] σ = some (.inl (some (.int 1)), σ) := fun v0 => by rw [e137_66 (d + 2), e137_71 (d + 2)]; rfl
  have e70 : ∀ v0, rn L xs (d + 3) 137 70 [v0] [] σ = some (.inl (some (.int 0)), σ) := fun v0 => by rw [e137_70 (d + 2), e137_71 (d + 2)]; rfl
  rw [e137_0 (d + 2), bI_ok (h.ck (d + 1)), k1, bI_ok (h.ck (d + 1)), k2, bI_ok (h.wd (x := 10) (w := 10) rfl (by omega) d), c1_ne_bN, bI_ok (h.wd (x := 11) (w := 11) rfl (by omega) d), c1_ne_bN, bI_ok (h.wd (x := 12) (w := 12) rfl (by omega) d), c1_ne_bN, bI_ok (h.sg (x := 40) (k := 24) rfl (by omega) (by omega) d), c1_eq_bN, e66, e70]
  have hd : ∀ x, x < 37 → (cond (decide (x = 2)) (1 : Int32) (cond (decide (x = 1)) 1 (cond (decide (x = 3 + 10)) 1 (cond (decide (x = 3 + 11)) 1 (cond (decide (x = 3 + 12)) 1 (cond (decide (x = 24)) 1 0)))))) = bN (ast x) := by decide +kernel
  rw [← hd _ (show μ A < 37 by omega)]
  cases decide (μ A = 2) <;> cases decide (μ A = 1) <;> cases decide (μ A = 3 + 10) <;> cases decide (μ A = 3 + 11) <;> cases decide (μ A = 3 + 12) <;> cases decide (μ A = 24) <;> rfl
theorem appl_loop {B : Nat} (hp : NT L xs K1 K2 m μ g fc 13 130 6 6 [jv, jv, jv, jv] B) {sc : List Nat} {fs : List (Nat × Nat × List Nat)} {D H n A0 P0 r d : Nat} (hP0 : P0 ≤ wch μ A0) (hB : m - A0 < B) (hn : n ≤ 8 * A0 + 5) (hd : 12 * (40 - D) + 20 + 6 ≤ d) : ∀ (b A1 P1 : Nat) (σ τ : tvS) (v2 v3 v4 : Value), m - A1 < b → ST K1 K2 m μ g fc sc fs D H (n + 1) A1 P1 (r + 1) σ τ → rd τ 132 n = i32 12 → TOP A0 P0 A1 P1 r σ τ → P1 + ach μ A0 + wch μ A0 ≤ P0 + wch μ A1 → aen (μ (A1 - 1)) = true →
    OUTI L xs K1 K2 τ (rn L xs (d + 1) 129 5 [.ref 62, .int (i32 (P1 - 1 : Nat)), v2, v3, v4] [] σ) (NTQ K1 K2 m μ g fc sc fs D H n r A0 P0 σ τ) := by
  intro b
  induction b with
  | zero => intro A1 P1 σ τ _ _ _ h; exact absurd h (Nat.not_lt_zero _)
  | succ b ih =>
    intro A1 P1 σ τ v2 v3 v4 hb h hX hT hw ha
    have hpop := h.pop
    have hmS := on_nx (L := L) (xs := xs) (X := 12) h hX (by omega) (fun d => on12 hpop d)
    refine OUTI.pre hmS ?_
    obtain ⟨o1, o2, o3, o4, o5, o6, ⟨s1, s2, s3, s4, s5, s6, s7, s8, s9, s10, s11, s12⟩, o8, o9, o10⟩ := h.all
    have hT' := hT
    obtain ⟨t1, t2, t3, t4, t5, t6, t7, u1, u2, u3, u4, u5, u6⟩ := hT'
    obtain ⟨d', rfl⟩ : ∃ d', d = d' + 3 := ⟨d - 3, by omega⟩
    rw [e129_5 (d' + 3), bI_ok (isAt h d'), c1_eq_bN]
    by_cases q : ast (μ A1) = true
    · rw [if_pos q, q, cond_true]
      have hST2 := ((hpop.push (by omega) 12 0 0).push (by omega) 22 0 0).push (by omega) 13 0 0
      have hold2 : OLD n r H P0 σ τ σ (mPush (mPush (mPush (wr τ 123 18 (i32 n)) n 12 0 0) (n + 1) 22 0 0) (n + 2) 13 0 0) := (((OLD.refl.wrM (by omega)).push (by omega)).push (by omega)).push (by omega)
      have i1 : IT (mPush (mPush (mPush (wr τ 123 18 (i32 n)) n 12 0 0) (n + 1) 22 0 0) (n + 2) 13 0 0) (n + 2) 13 0 0 := IT.at rfl
      have i2 : IT (mPush (mPush (mPush (wr τ 123 18 (i32 n)) n 12 0 0) (n + 1) 22 0 0) (n + 2) 13 0 0) (n + 1) 22 0 0 := (IT.at rfl).push (by omega)
      have i3 : IT (mPush (mPush (mPush (wr τ 123 18 (i32 n)) n 12 0 0) (n + 1) 22 0 0) (n + 2) 13 0 0) n 12 0 0 := ((IT.at rfl).push (by omega)).push (by omega)
      have hr1 : ∀ j, 135 ≤ j → j ≤ 137 → rd (mPush (mPush (mPush (wr τ 123 18 (i32 n)) n 12 0 0) (n + 1) 22 0 0) (n + 2) 13 0 0) j r = rd τ j r := fun j h1 h2 => (mPush_oth (by omega) (by omega)).trans ((mPush_oth (by omega) (by omega)).trans ((mPush_oth (by omega) (by omega)).trans (wr_nek (by omega))))
      generalize mPush (mPush (mPush (wr τ 123 18 (i32 n)) n 12 0 0) (n + 1) 22 0 0) (n + 2) 13 0 0 = τ2 at hST2 hold2 i1 i2 i3 hr1
      refine OUTI.bI (hp sc fs D H (n + 2) A1 P1 (r + 1) σ τ2 (d' + 3) hST2 i1.1 (by omega) (by omega) (by omega)) (fun a σ2 τ3 hQ => ?_)
      obtain ⟨A2, P2, q1, q2, ⟨v1, v2', v3', v4', v5, v6, v7, v8⟩, q4, q5, q6⟩ := hQ
      obtain ⟨p1, p2, p3, p4, ⟨p5, p5'⟩, p6, ⟨r1, r2, r3, r4, r5, r6, r7, r8, r9, r10, r11, r12⟩, p8, p9, p10⟩ := q2.all
      have hT2 : PT P0 (P1 - 1) σ2 := PT.old q6 (by omega) (hST2.s5 q2) ⟨u1, u2, u3, u4, u5, u6⟩
      have hach : ach μ A1 = 1 := by
        obtain ⟨A', rfl⟩ : ∃ A', A1 = A' + 1 := ⟨A1 - 1, by omega⟩
        show cond (ast (μ (A' + 1)) && aen (μ A')) 1 0 = 1
        rw [q, show aen (μ A') = true from ha]; rfl
      subst q1
      obtain ⟨σ3, nC, hrun⟩ := pad2 (L := L) (xs := xs) (σ := σ2) (κ := 7) (x := 7) (P := P2) (c1 := P1 - 1) (c2 := P2 - 1) (s1 := P0) (s2 := P1) (f := i32 A0) (l := i32 (A2 - 1 : Nat)) (s := rd σ2 62 5) (r1 := 4) (r2 := 5) rfl p5 (by omega) (by omega) (by omega) hT2.2.1 v8.2.1 (by have := hT2.1; omega) (by omega) (by have := v8.1; omega) rfl rfl d'
      rw [t3, v4']
      have e := hrun (fun a6 s8 => rn L xs (d' + 3 + 1) 129 5 [.ref 62, .int a6, .int (i32 A0), .int (i32 (P2 - 1 : Nat)), .int a6] [] (wr s8 62 8 (i32 A0)))
      refine e.symm ▸ ?_
      have hsc : ∀ i, i ≠ 8 → rd (wr σ3 62 8 (i32 A0)) 62 i = rd σ2 62 i := fun i hi => by rw [rd_wr, if_neg (by omega)]; exact nC.2.1 62 i rfl (by omega)
      obtain ⟨τ4, w1, w2, w3, w4⟩ := bin_ok (L := L) (xs := xs) (κ := 7) (X := 22) (A0 := A0) (A2 := A2) (P0 := P0) (P1 := P1) (p1 := P1 - 1) (p2 := P2 - 1) (H' := H) (n := n + 1) (r := r) (σ1 := σ3) (σ' := wr σ3 62 8 (i32 A0)) q2 hT2 v8 (by omega) (by omega) ((q6.2.1 r (by omega) 135 (by omega) (by omega)).trans ((hr1 135 (by omega) (by omega)).trans t5)) v5 (fun _ => ⟨(q6.2.1 r (by omega) 136 (by omega) (by omega)).trans ((hr1 136 (by omega) (by omega)).trans t6), v7⟩) (IT.old q6 (by omega) i2) (by omega) (by omega) nC ⟨fun j i h1 h2 => by rw [rd_wr, if_neg (fun q => by rw [q.1, q.2] at h2; cases h2)], rfl⟩ (by rw [rd_wr, if_pos ⟨rfl, rfl⟩]) ((hsc 9 (by omega)).trans v4') ((hsc 3 (by omega)).trans r1) ((hsc 4 (by omega)).trans r3) ((hsc 11 (by omega)).trans r5) r10 (fun i hi => by rw [rd_wr, if_neg (by omega)]; exact nC.2.1 63 i rfl (by omega)) (t1.2.join q6 v1.2 (by omega)) (fun e => by omega) (Or.inr (Or.inr (Or.inl ⟨rfl, rfl⟩)))
      refine OUTI.pre w1 ?_
      have hold3 : OLD n r H P0 σ τ (wr σ3 62 8 (i32 A0)) τ4 := hold2.trans ((q6.mono (by omega) (by omega) (by omega) (by omega)).trans (w4.mono (by omega) (Nat.le_refl _) (Nat.le_refl _) (Nat.le_refl _)) (Nat.le_refl _) (Nat.le_refl _) (Nat.le_refl _) (Nat.le_refl _)) (Nat.le_refl _) (Nat.le_refl _) (Nat.le_refl _) (Nat.le_refl _)
      have i3' : rd τ4 132 n = i32 12 := (IT.old w4 (by omega) (IT.old q6 (by omega) i3)).1
      refine OUTI.mono (ih A2 (P2 + 1) (wr σ3 62 8 (i32 A0)) τ4 (.int (i32 A0)) (.int (i32 (P2 - 1 : Nat))) (.int (i32 P2)) (by omega) w2 i3' w3 (by omega) q5) (fun a σ'' τ'' hQ => ?_)
      obtain ⟨A3, P3, y1, y2, y3, y4, y5, y6⟩ := hQ
      exact ⟨A3, P3, y1, y2, y3, y4, y5, hold3.trans y6 (Nat.le_refl _) (Nat.le_refl _) (Nat.le_refl _) (Nat.le_refl _)⟩
    · rw [if_neg q, show ast (μ A1) = false from by cases e : ast (μ A1) with | false => rfl | true => exact absurd e q, cond_false, e129_77 (d' + 3)]
      exact OUTI.fin ⟨A1, P1, rfl, hpop, hT.stay (fun _ _ _ => rfl) rfl rfl rfl (fun j h1 h2 => wr_nek (by omega)), hw, ha, OLD.refl.wrM (by omega)⟩ rfl
theorem appl_nt {B : Nat} (hp : NT L xs K1 K2 m μ g fc 13 130 6 6 [jv, jv, jv, jv] B) : NT L xs K1 K2 m μ g fc 11 129 5 7 [jv, jv, jv, jv] B := by
  intro sc fs D H n A P r σ τ d h hX hB hn hd
  obtain ⟨d, rfl⟩ : ∃ d', d = d' + 1 := ⟨d - 1, by omega⟩
  obtain ⟨o1, o2, o3, o4, o5, o6, ⟨s1, s2, s3, s4, s5, s6, s7, s8, s9, s10, s11, s12⟩, o8, o9, o10⟩ := h.all
  have hpop := h.pop
  have hmS : mS L xs τ (mPush (mPush (wr τ 123 18 (i32 n)) n 12 0 0) (n + 1) 13 0 0) := by
    refine nx s6 (by omega) o3 ⟨hX, rfl, rfl⟩ (pc := 278) (by decide +kernel) (fun dm => ?_)
    rw [e310_278 (dm + 7), bV_ok (mpush_ok (n := n) (by rw [rd_wr, if_pos ⟨rfl, rfl⟩]) (by omega) (dm + 6) _ _ _), bV_ok (mpush_ok (n := n + 1) mPush_come (by omega) (dm + 6) _ _ _), e310_362]
  refine OUTI.pre hmS ?_
  have h2 := (hpop.push (by omega) 12 0 0).push (by omega) 13 0 0
  have hold : OLD n r H P σ τ σ (mPush (mPush (wr τ 123 18 (i32 n)) n 12 0 0) (n + 1) 13 0 0) := ((OLD.refl.wrM (by omega)).push (by omega)).push (by omega)
  have i1 : IT (mPush (mPush (wr τ 123 18 (i32 n)) n 12 0 0) (n + 1) 13 0 0) (n + 1) 13 0 0 := IT.at rfl
  have i2 : IT (mPush (mPush (wr τ 123 18 (i32 n)) n 12 0 0) (n + 1) 13 0 0) n 12 0 0 := (IT.at rfl).push (by omega)
  generalize mPush (mPush (wr τ 123 18 (i32 n)) n 12 0 0) (n + 1) 13 0 0 = τ2 at h2 hold i1 i2
  rw [e129_0 d]
  refine OUTI.bI (hp sc fs D H (n + 1) A P r σ τ2 d h2 i1.1 hB (by omega) (by omega)) (fun a σ1 τ1 hQ => ?_)
  obtain ⟨A1, P1, y1, y2, y3, y4, y5, y6⟩ := hQ
  subst y1
  refine OUTI.mono (appl_loop hp s12 hB (by omega) (by omega) (m - A1 + 1) A1 P1 σ1 τ1 _ _ _ (by omega) y2 (IT.old y6 (by omega) i2).1 y3 y4 y5) (fun a σ'' τ'' hQ => ?_)
  obtain ⟨A3, P3, z1, z2, z3, z4, z5, z6⟩ := hQ
  exact ⟨A3, P3, z1, z2, z3, z4, z5, hold.trans ((y6.mono (by omega) (by omega) (by omega) (by omega)).trans z6 (Nat.le_refl _) (Nat.le_refl _) (Nat.le_refl _) (Nat.le_refl _)) (Nat.le_refl _) (Nat.le_refl _) (Nat.le_refl _) (Nat.le_refl _)⟩
end APPL
