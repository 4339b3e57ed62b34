/-! READING: atoms -/
section ATOM
variable {L : Nat} {xs : Nat → Int32} {K1 K2 m : Nat} {μ : Nat → Nat} {g fc : Nat}
theorem simple_ok {B d : Nat} {sc : List Nat} {fs : List (Nat × Nat × List Nat)} {D H n A P r : Nat} {σ τ : tvS} (hE : NT L xs K1 K2 m μ g fc 1 119 0 0 [jv] B) (h : ST K1 K2 m μ g fc sc fs D H (n + 1) A P r σ τ) (hX : rd τ 132 n = i32 13) (hns : μ A ≠ 14 ∧ μ A ≠ 15) (hB : m - A ≤ B) (hn : n ≤ 8 * A + 6) (hd : 12 * (40 - D) + 20 + 5 ≤ d) :
    OUTI L xs K1 K2 τ (rn L xs d 132 0 [.ref 62, jv, jv] [] σ) (NTQ K1 K2 m μ g fc sc fs D H n r A P σ τ) := by
  obtain ⟨d, rfl⟩ : ∃ d', d = d' + 5 := ⟨d - 5, by omega⟩
  obtain ⟨o1, o2, o3, o4, ⟨o5, o5'⟩, o6, ⟨s1, s2, s3, s4, s5, s6, s7, s8, s9, s10, s11, s12⟩, o8, o9, o10⟩ := h.all
  have hpop := h.pop
  have p17 : rd (wr τ 123 18 (i32 n)) 123 17 = i32 A := by rw [rd_wr, if_neg (by omega)]; exact s2
  have p5 : rd (wr τ 123 18 (i32 n)) 123 5 = 0 := by rw [rd_wr, if_neg (by omega)]; exact o3
  rw [e132_0 (d + 4), bI_ok (h.ck (d + 3)), ck_ne, h.kn.1]
  by_cases q1 : μ A = 2
  · rw [decide_eq_true q1]
    show OUTI L xs K1 K2 τ (bI (rn L xs (d + 4) 61 0 [.ref 6, .int (rd σ 62 3)] [] σ) _ X0) _
    rw [s1, bI_ok (r := rn L xs (d + 4) 61 0 [.ref 6, .int (i32 A)] [] σ) (x := rd σ 11 A) (σ := σ) (by rw [e61_0, c_in (by omega) (by omega) (by omega), i32_ixn (by omega)])]
    exact OUTI.bI (leaf_ok (κ := 0) h hX rfl (Or.inl ⟨rfl, q1, rfl⟩) (d + 2)) (fun a σ' τ' hQ => OUTI.fin hQ rfl)
  rw [decide_eq_false q1]
  show OUTI L xs K1 K2 τ (rn L xs (d + 4 + 1) 132 32 [.ref 62, dj jv, dj jv] [] σ) _
  rw [e132_32 (d + 4), bI_ok (h.wd (x := 10) (w := 10) rfl (by omega) (d + 2)), c1_eq_bN]
  by_cases q2 : μ A = 3 + 10
  · rw [decide_eq_true q2, cond_true]
    exact OUTI.bI (leaf_ok (κ := 1) h hX rfl (Or.inr ⟨rfl, q2, rfl⟩) (d + 2)) (fun a σ' τ' hQ => OUTI.fin hQ rfl)
  rw [decide_eq_false q2, cond_false, e132_48 (d + 4), bI_ok (h.sg (x := 40) (k := 24) rfl (by omega) (by omega) (d + 2)), c1_eq_bN]
  by_cases q3 : μ A = 24
  · rw [decide_eq_true q3, cond_true]
    exact OUTI.bI (br_ok hE h hX q3 hB hn (by omega)) (fun a σ' τ' hQ => OUTI.fin hQ rfl)
  rw [decide_eq_false q3, cond_false, e132_62 (d + 4), bI_ok (h.ck (d + 3)), h.kn.2.1]
  by_cases q4 : μ A = 1
  · have hlt := h.lt (by omega)
    rw [decide_eq_true q4, cond_true, e132_86 (d + 4), s1, bL_ok (r := rn L xs (d + 4) 59 0 [.ref 6, .int (i32 A)] [] σ) (x := rl σ 12 A) (σ := σ) (by rw [e59_0, c_in (by omega) (by omega) (by omega), i32_ixn (by omega)]), bI_ok (cvar_ok (d + 3) (rl σ 12 A) h.ch)]
    have hfd : ∀ v, (sc.find? fun v => decide (rl σ 29 v = rl σ 12 A)) = some v → v < 4101 := fun v hv => h.ch.mem _ _ v (List.mem_of_find?_eq_some hv)
    cases hv : (sc.find? fun v => decide (rl σ 29 v = rl σ 12 A)) with
    | some v =>
      have := hfd v hv
      show OUTI L xs K1 K2 τ (cond (pv_c2 .eq (i32 (v : Int)) (i32 (-1))) _ _) _
      rw [c2_eq (by omega) (by omega) (by omega) (by omega), c_f (by omega)]
      exact vleaf_ok h hX q4 hv (d + 2)
    | none =>
      show OUTI L xs K1 K2 τ (cond (pv_c2 .eq (i32 (-1)) (i32 (-1))) _ _) _
      obtain ⟨F, V, S, c1, ⟨b1, b2, b3, b4, b5, b6, b7⟩, _⟩ := h.core
      rw [c2_refl, e132_133 (d + 4), s1, bL_ok (r := rn L xs (d + 4) 59 0 [.ref 6, .int (i32 A)] [] σ) (x := rl σ 12 A) (σ := σ) (by rw [e59_0, c_in (by omega) (by omega) (by omega), i32_ixn (by omega)]), bI_ok (known_ok b4 b1 b6.1 b3 (d + 2)), bI_ok (cfun_ok (d + 3) (rl σ 12 A) (by have := b6.1; omega))]
      cases hf : fIx (fun f => decide (rl σ 42 f = rl σ 12 A)) (min (g + 1) fc) 0 with
      | some f =>
        have hfl := fIx_lt _ _ _ hf
        show OUTI L xs K1 K2 τ (cond (pv_c2 .ne (i32 (f : Int)) (i32 (-1))) _ _) _
        rw [c2_ne (by have := b6.1; omega) (by have := b6.1; omega) (by omega) (by omega), c_t (by omega)]
        show OUTI L xs K1 K2 τ (rn L xs (d + 4 + 1) 132 170 [.ref 62, _, .int (i32 f)] [] σ) _
        rw [e132_170 (d + 4)]
        exact OUTI.bI (call_ok hE h hX q4 hv hf hB hn (by omega)) (fun a σ' τ' hQ => OUTI.fin hQ rfl)
      | none =>
        show OUTI L xs K1 K2 τ (cond (pv_c2 .ne (i32 (-1)) (i32 (-1))) _ _) _
        rw [c2_ne (by omega) (by omega) (by omega) (by omega), c_f (by omega), s1, bV_ex (cfail_ok o1 s8 o4 (d + 2) 3)]
        refine Or.inr (FLT.mk' (τ1 := wr τ 123 18 (i32 n)) hpop s8 (by decide) rfl ?_)
        refine nx s6 (by omega) o3 ⟨hX, rfl, rfl⟩ (pc := 297) (by decide +kernel) (fun dm => ?_)
        have e315 : rn L xs (dm + 6) 315 0 [.ref 123, jv, jv, jv, jv] [] (wr τ 123 18 (i32 n)) = some (.inl none, mFlt (wr τ 123 18 (i32 n)) 3 (rd (wr τ 123 18 (i32 n)) 127 A)) := by
          rw [e315_0 (dm + 5), p17, c_in (by omega) (by omega) (by omega), i32_ixn (by omega), bI_ok (hpop.mvar hlt q4 (dm + 4)), hv]
          show cond (pv_c2 .eq (i32 (-1)) (i32 (-1))) _ _ = _
          rw [c2_refl, e315_66 (dm + 5), bI_ok (hpop.mfun hlt q4 (dm + 4)), hf]
          show cond (pv_c2 .ne (i32 (-1)) (i32 (-1))) _ _ = _
          rw [c2_ne (by omega) (by omega) (by omega) (by omega), c_f (by omega), p17, c_in (by omega) (by omega) (by omega), i32_ixn (by omega), bV_ok (mfail_ok p5 (dm + 4) _ _)]
          rfl
        rw [e310_297 (dm + 7), bV_ok (r := rn L xs (dm + 7) 312 0 _ _ _) (σ := mFlt (wr τ 123 18 (i32 n)) 3 (rd (wr τ 123 18 (i32 n)) 127 A)), e310_362]
        rw [e312_0 (dm + 6), bI_ok (hpop.mk (dm + 5)), q4, swk_of (p := 163) (by decide +kernel), e312_163 (dm + 6), bV_ok e315, e312_246]
  · rw [decide_eq_false q4, cond_false, s1, bV_ex (cfail_ok o1 s8 o4 (d + 2) 2)]
    refine Or.inr (FLT.mk' (τ1 := wr τ 123 18 (i32 n)) hpop s8 (by decide) rfl ?_)
    refine nx s6 (by omega) o3 ⟨hX, rfl, rfl⟩ (pc := 297) (by decide +kernel) (fun dm => ?_)
    have hsw : ∀ x, x < 37 → (x = 2 ∨ x = 13 ∨ x = 24 ∨ x = 1 ∨ x = 14 ∨ x = 15) ∨ ((insP 312 9).bind fun q => tv_sw q.1 9 (i32 (x : Nat))) = some 232 := by decide +kernel
    have hm36 := h.mu36
    rw [e310_297 (dm + 7), bV_ok (r := rn L xs (dm + 7) 312 0 _ _ _) (σ := mFlt (wr τ 123 18 (i32 n)) 2 (rd (wr τ 123 18 (i32 n)) 127 A)), e310_362]
    rw [e312_0 (dm + 6), bI_ok (hpop.mk (dm + 5)), swk_of ((hsw (μ A) (by omega)).resolve_left (fun q => by have := hns.1; have := hns.2; omega)), e312_232 (dm + 6), p17, c_in (by omega) (by omega) (by omega), i32_ixn (by omega), bV_ok (mfail_ok p5 (dm + 5) _ _), e312_246]
    rfl
theorem atom_loop {B : Nat} (hE : NT L xs K1 K2 m μ g fc 1 119 0 0 [jv] B) {sc : List Nat} {fs : List (Nat × Nat × List Nat)} {D d base : Nat} (hd : 12 * (40 - D) + 20 + 5 ≤ d) : ∀ (b n r H A P : Nat) (σ τ : tvS) (v2 v3 v4 : Value), m - A < b → base ≤ H → m - A ≤ B → n ≤ 8 * A + 6 → ST K1 K2 m μ g fc sc fs D H (n + 1) A P r σ τ → rd τ 132 n = i32 13 →
    (∃ A3 P3 σ' τ' w3 w4, rn L xs (d + 1) 130 5 [.ref 62, .int (i32 base), v2, v3, v4] [] σ = rn L xs (d + 1) 130 49 [.ref 62, .int (i32 base), .int (i32 (P3 - 1 : Nat)), w3, w4] [] σ' ∧ mS L xs τ τ' ∧ ST K1 K2 m μ g fc sc fs D H n A3 P3 (r + 1) σ' τ' ∧ TOP A P A3 P3 r σ' τ' ∧ P3 + ach μ A + wch μ A ≤ P + wch μ A3 ∧ aen (μ (A3 - 1)) = true ∧ OLD n r H P σ τ σ' τ') ∨
      FLT L xs K1 K2 τ (rn L xs (d + 1) 130 5 [.ref 62, .int (i32 base), v2, v3, v4] [] σ) := by
  intro b
  induction b with
  | zero => intro n r H A P σ τ _ _ _ h; exact absurd h (Nat.not_lt_zero _)
  | succ b ih =>
    intro n r H A P σ τ v2 v3 v4 hb hbase hB hn h hX
    obtain ⟨o1, o2, o3, o4, ⟨o5, o5'⟩, o6, ⟨s1, s2, s3, s4, s5, s6, s7, s8, s9, s10, s11, s12⟩, o8, o9, o10⟩ := h.all
    obtain ⟨d', rfl⟩ : ∃ d', d = d' + 4 := ⟨d - 4, by omega⟩
    have hpop := h.pop
    have hws := wch_succ μ A
    by_cases q : μ A = 14 ∨ μ A = 15
    · have hlt := h.lt (by omega)
      have hu : uch (μ A) = 1 := by rcases q with e | e <;> rw [e] <;> rfl
      have e23 : ∀ v2 v3 v4, (∃ A3 P3 σ' τ' w3 w4, rn L xs (d' + 4 + 1) 130 23 [.ref 62, .int (i32 base), v2, v3, v4] [] σ = rn L xs (d' + 4 + 1) 130 49 [.ref 62, .int (i32 base), .int (i32 (P3 - 1 : Nat)), w3, w4] [] σ' ∧ mS L xs τ τ' ∧ ST K1 K2 m μ g fc sc fs D H n A3 P3 (r + 1) σ' τ' ∧ TOP A P A3 P3 r σ' τ' ∧ P3 + ach μ A + wch μ A ≤ P + wch μ A3 ∧ aen (μ (A3 - 1)) = true ∧ OLD n r H P σ τ σ' τ') ∨
          FLT L xs K1 K2 τ (rn L xs (d' + 4 + 1) 130 23 [.ref 62, .int (i32 base), v2, v3, v4] [] σ) := by
        intro v2 v3 v4
        have g3 : rd (wr (wr σ 63 H (i32 A)) 62 11 (i32 (H + 1 : Nat))) 62 3 = i32 A := by rw [rd_wr, if_neg (by omega), wr_nek (by omega)]; exact s1
        rw [e130_23 (d' + 4), s1, bV_ok (hold_ok s5 (by omega) (d' + 3) _), g3, i32_n1]
        have hmS : mS L xs τ (mPush (mPush (wr (wr τ 123 18 (i32 n)) 123 17 (i32 (A + 1 : Nat))) n 23 (i32 A) (i32 (μ A))) (n + 1) 13 0 0) := by
          refine nx s6 (by omega) o3 ⟨hX, rfl, rfl⟩ (pc := 297) (by decide +kernel) (fun dm => ?_)
          have p17 : rd (wr τ 123 18 (i32 n)) 123 17 = i32 A := by rw [rd_wr, if_neg (by omega)]; exact s2
          have p126 : rd (wr τ 123 18 (i32 n)) 126 A = i32 (μ A) := by rw [wr_nek (by omega), ← o2]; exact (o1.2.1 A s8).1
          have hsw : ((insP 312 9).bind fun q => tv_sw q.1 9 (i32 (μ A))) = some 198 := by rcases q with e | e <;> rw [e] <;> decide +kernel
          rw [e310_297 (dm + 7), bV_ok (r := rn L xs (dm + 7) 312 0 _ _ _) (σ := mPush (mPush (wr (wr τ 123 18 (i32 n)) 123 17 (i32 (A + 1 : Nat))) n 23 (i32 A) (i32 (μ A))) (n + 1) 13 0 0), e310_362]
          rw [e312_0 (dm + 6), bI_ok (hpop.mk (dm + 5)), swk_of hsw, p17, e312_198 (dm + 6), c_in (by omega) (by omega) (by omega), i32_ixn (by omega), p126, p17, i32_n1, bV_ok (mpush_ok (n := n) (by rw [rd_wr, if_neg (by omega), rd_wr, if_pos ⟨rfl, rfl⟩]) (by omega) (dm + 5) _ _ _), bV_ok (mpush_ok (n := n + 1) mPush_come (by omega) (dm + 5) _ _ _), e312_246]
        have hST2 : ST K1 K2 m μ g fc sc fs D (H + 1) (n + 2) (A + 1) P r (wr (wr (wr σ 63 H (i32 A)) 62 11 (i32 (H + 1 : Nat))) 62 3 (i32 (A + 1 : Nat))) (mPush (mPush (wr (wr τ 123 18 (i32 n)) 123 17 (i32 (A + 1 : Nat))) n 23 (i32 A) (i32 (μ A))) (n + 1) 13 0 0) := by
          have h3 := ((hpop.at1 hlt).push (by omega) 23 (i32 A) (i32 (μ A))).push (by omega) 13 0 0
          obtain ⟨_, _, _, _, _, _, ⟨z1, z2, z3, z4, z5, z6, z7, z8, z9, z10, z11, z12⟩, _⟩ := h3.all
          have o : ∀ i, i ≠ 3 → i ≠ 11 → rd (wr (wr (wr σ 63 H (i32 A)) 62 11 (i32 (H + 1 : Nat))) 62 3 (i32 (A + 1 : Nat))) 62 i = rd σ 62 i := fun i h1 h2 => by rw [wr_nei h1, wr_nei h2, wr_nek (by omega)]
          refine ST.ag (σ := wr σ 62 3 (i32 (A + 1 : Nat))) (σ' := wr (wr (wr σ 63 H (i32 A)) 62 11 (i32 (H + 1 : Nat))) 62 3 (i32 (A + 1 : Nat))) (H' := H + 1) h3 ⟨fun j i hs => ?_, rfl⟩ agM.refl (Nat.le_refl _) z8 z9 (by omega) z11 (wr_self _ _ _ _) z2 ((o 4 (by omega) (by omega)).trans s3) z4 (by rw [wr_nei (by omega), wr_self]) z6 z7
          have hne : ∀ k i', scC k i' = true → ¬ (j = k ∧ i = i') := fun k i' hk p => by rw [p.1, p.2, hk] at hs; cases hs
          rw [rd_wr, if_neg (hne 62 3 rfl), rd_wr, if_neg (hne 62 11 rfl), rd_wr, if_neg (hne 63 H rfl), rd_wr, if_neg (hne 62 3 rfl)]
        have hold2 : OLD n r H P σ τ (wr (wr (wr σ 63 H (i32 A)) 62 11 (i32 (H + 1 : Nat))) 62 3 (i32 (A + 1 : Nat))) (mPush (mPush (wr (wr τ 123 18 (i32 n)) 123 17 (i32 (A + 1 : Nat))) n 23 (i32 A) (i32 (μ A))) (n + 1) 13 0 0) := ((((((OLD.refl.wrC (by omega)).wrC (by omega)).wrC (by omega)).wrM (by omega)).wrM (by omega)).push (by omega)).push (by omega)
        have i1 : IT (mPush (mPush (wr (wr τ 123 18 (i32 n)) 123 17 (i32 (A + 1 : Nat))) n 23 (i32 A) (i32 (μ A))) (n + 1) 13 0 0) (n + 1) 13 0 0 := IT.at rfl
        have i2 : IT (mPush (mPush (wr (wr τ 123 18 (i32 n)) 123 17 (i32 (A + 1 : Nat))) n 23 (i32 A) (i32 (μ A))) (n + 1) 13 0 0) n 23 (i32 A) (i32 (μ A)) := (IT.at rfl).push (by omega)
        have r63 : rd (wr (wr (wr σ 63 H (i32 A)) 62 11 (i32 (H + 1 : Nat))) 62 3 (i32 (A + 1 : Nat))) 63 H = i32 A := by rw [wr_nek (by omega), wr_nek (by omega), rd_wr, if_pos ⟨rfl, rfl⟩]
        generalize mPush (mPush (wr (wr τ 123 18 (i32 n)) 123 17 (i32 (A + 1 : Nat))) n 23 (i32 A) (i32 (μ A))) (n + 1) 13 0 0 = τ2 at hmS hST2 hold2 i1 i2
        generalize wr (wr (wr σ 63 H (i32 A)) 62 11 (i32 (H + 1 : Nat))) 62 3 (i32 (A + 1 : Nat)) = σ2 at hST2 hold2 r63
        rcases ih (n + 1) r (H + 1) (A + 1) P σ2 τ2 (dj v2) (dj v3) (dj v4) (by omega) (by omega) (by omega) (by omega) hST2 i1.1 with ⟨A3, P3, σ3, τ3, w3, w4, z1, z2, z3, z4, z5, z6, z7⟩ | hF
        · rw [z1]
          obtain ⟨p1, p2, p3, p4, ⟨p5, p5'⟩, p6, ⟨r1, r2, r3, r4, r5, r6, r7, r8, r9, r10, r11, r12⟩, p8, p9, p10⟩ := z3.all
          obtain ⟨t1, t2, t3, t4, t5, t6, t7, t8⟩ := z4
          have m63 : rd σ3 63 H = i32 A := (z7.2.2.1 H (by omega)).trans r63
          have hLV3 := p1
          have hwd : rn L xs (d' + 4) 56 0 [.ref 6, .int (i32 A), .int 11] [] (wr σ3 62 11 (i32 H)) = some (.inl (some (.int (bN (decide (μ A = 14))))), wr σ3 62 11 (i32 H)) := by
            have := cword_ok (L := L) (xs := xs) (w := 11) (p1.wrC (k := 62) (i := 11) (x := i32 H) rfl) (k := A) (by omega) (by omega) (d' + 3)
            rw [p2] at this
            exact this
          rw [e130_49 (d' + 4), r5, c2_le (by omega) (by omega) (by omega) (by omega), c_f (by omega), bI_ok (drop_ok (H := H) r5 (by omega) (d' + 3)), m63, bI_ok hwd, c1_eq_bN]
          have hST4 : ST K1 K2 m μ g fc sc fs D H (n + 1) A3 P3 (r + 1) (wr σ3 62 11 (i32 H)) τ3 := z3.ag (agC.refl.wr rfl) agM.refl (Nat.le_refl _) r8 r9 (by omega) r11 (by rw [rd_wr, if_neg (by omega)]; exact r1) r2 (by rw [rd_wr, if_neg (by omega)]; exact r3) r4 (by rw [rd_wr, if_pos ⟨rfl, rfl⟩]) r6 r7
          have oc : ∀ j i, ¬ (j = 62 ∧ i = 11) → rd (wr σ3 62 11 (i32 H)) j i = rd σ3 j i := fun j i hj => by rw [rd_wr, if_neg hj]
          have hPT : PT P (P3 - 1) (wr σ3 62 11 (i32 H)) := by
            obtain ⟨g1, g2, g3, g4, g5, g6⟩ := t8
            exact ⟨g1, (oc _ _ (by omega)).trans g2, (oc _ _ (by omega)).trans g3, (oc _ _ (by omega)).trans g4, (oc _ _ (by omega)).trans g5, ((oc _ _ (by omega)).trans g6).trans (oc _ _ (by omega)).symm⟩
          have e11 : rd (wr σ3 62 11 (i32 H)) 62 11 = i32 H := by rw [rd_wr, if_pos ⟨rfl, rfl⟩]
          have rlc : ∀ j i, rl (wr σ3 62 11 (i32 H)) j i = rl σ3 j i := fun _ _ => rfl
          generalize wr σ3 62 11 (i32 H) = σ4 at hST4 oc hPT e11 rlc
          have fin : ∀ (κ : Nat) (x : Int32), x = i32 κ → (κ = 5 ∧ μ A = 14 ∨ κ = 6 ∧ μ A = 15) → ∀ v4, (∃ A4 P4 σ' τ' w3 w4, rn L xs (d' + 4 + 1) 130 85 [.ref 62, .int (i32 base), .int (i32 (P3 - 1 : Nat)), .int (i32 A), v4] [.int x, .ref 15] σ4 = rn L xs (d' + 4 + 1) 130 49 [.ref 62, .int (i32 base), .int (i32 (P4 - 1 : Nat)), w3, w4] [] σ' ∧ mS L xs τ τ' ∧ ST K1 K2 m μ g fc sc fs D H n A4 P4 (r + 1) σ' τ' ∧ TOP A P A4 P4 r σ' τ' ∧ P4 + ach μ A + wch μ A ≤ P + wch μ A4 ∧ aen (μ (A4 - 1)) = true ∧ OLD n r H P σ τ σ' τ') := by
            intro κ x hx hκ v4
            obtain ⟨σ5, nC, hrun⟩ := pad1 (L := L) (xs := xs) (σ := σ4) (κ := κ) (x := x) (P := P3) (c1 := P3 - 1) (s1 := P) (f := i32 A) (l := i32 (A3 - 1 : Nat)) (s := rd σ4 62 5) (r1 := 3) hx ((oc _ _ (by omega)).trans p5) (by omega) (by omega) hPT.2.1 hPT.1 (by rcases hκ with ⟨e, _⟩ | ⟨e, _⟩ <;> rw [e] <;> rfl) (d' + 1)
            have e9 : rd σ4 62 9 = i32 (A3 - 1 : Nat) := (oc _ _ (by omega)).trans t4
            rw [e130_85 (d' + 4), e9]
            have e := hrun (fun a2 s3 => rn L xs (d' + 4 + 1) 130 49 [.ref 62, .int (i32 base), .int a2, .int (i32 A), .int a2] [] (wr s3 62 8 (i32 A)))
            have hsc : ∀ i, i ≠ 8 → rd (wr σ5 62 8 (i32 A)) 62 i = rd σ4 62 i := fun i hi => by rw [rd_wr, if_neg (by omega)]; exact nC.2.1 62 i rfl (by omega)
            obtain ⟨τ5, g1, g2, g3, g4⟩ := una_ok (L := L) (xs := xs) (κ := κ) (A0 := A) (A2 := A3) (P0 := P) (p := P3 - 1) (H' := H) (n := n) (r := r) (b := i32 (μ A)) (σ1 := σ5) (σ' := wr σ5 62 8 (i32 A)) hST4 hPT (by omega) (by rcases hκ with ⟨e, e2⟩ | ⟨e, e2⟩ <;> rw [e, e2] <;> first | exact Or.inl ⟨rfl, rfl⟩ | exact Or.inr ⟨rfl, rfl⟩) t5 t7 (IT.old z7 (by omega) i2) (by omega) (by omega) nC
              ⟨fun j i h1 h2 => by rw [rd_wr, if_neg (fun q => by rw [q.1, q.2] at h2; cases h2)], rfl⟩ (by rw [rd_wr, if_pos ⟨rfl, rfl⟩]) ((hsc 9 (by omega)).trans e9) ((hsc 3 (by omega)).trans ((oc _ _ (by omega)).trans r1)) ((hsc 4 (by omega)).trans ((oc _ _ (by omega)).trans r3)) ((hsc 11 (by omega)).trans e11) (by omega) (fun i hi => by rw [wr_nek (by omega)]; exact nC.2.1 63 i rfl (by omega)) (fun q h1 h2 => by rw [oc 17 q (by omega)]; have := t1.2 q h1 h2; omega)
            refine ⟨A3, P3 + 1, _, τ5, .int (i32 A), .int (i32 P3), e, hmS.trans (z2.trans g1), g2, g3, by omega, z6, ?_⟩
            have oldc : OLD n r H P σ3 τ3 σ4 τ3 := ⟨fun _ _ _ _ _ => rfl, fun _ _ _ _ _ => rfl, fun i _ => oc 63 i (by omega), fun p _ j _ _ => oc j p (by omega), fun v _ => ⟨rlc 29 v, oc 31 v (by omega), oc 32 v (by omega), oc 33 v (by omega)⟩, by rw [oc 15 19 (by omega)]; exact Nat.le_refl _, fun j _ i => rlc j i, OLX.of (fun j i h => oc j i (by omega)) (fun _ _ _ => rfl), MB.same (fun j i h => oc j i (by omega))⟩
            exact hold2.trans ((z7.mono (by omega) (Nat.le_refl _) (by omega) (Nat.le_refl _)).trans (oldc.trans g4 (Nat.le_refl _) (Nat.le_refl _) (Nat.le_refl _) (Nat.le_refl _)) (Nat.le_refl _) (Nat.le_refl _) (Nat.le_refl _) (Nat.le_refl _)) (Nat.le_refl _) (Nat.le_refl _) (Nat.le_refl _) (Nat.le_refl _)
          by_cases q1 : μ A = 14
          · rw [decide_eq_true q1, cond_true]
            obtain ⟨A4, P4, σ', τ', u3, u4, y⟩ := fin 5 5 rfl (Or.inl ⟨rfl, q1⟩) (dj (dj w4))
            exact Or.inl ⟨A4, P4, σ', τ', u3, u4, y⟩
          · rw [decide_eq_false q1, cond_false, e130_83]
            obtain ⟨A4, P4, σ', τ', u3, u4, y⟩ := fin 6 6 rfl (Or.inr ⟨rfl, by omega⟩) (dj (dj w4))
            exact Or.inl ⟨A4, P4, σ', τ', u3, u4, y⟩
        · exact Or.inr (hF.pre hmS)
      rw [e130_5 (d' + 4), bI_ok (h.wd (x := 11) (w := 11) rfl (by omega) (d' + 2)), c1_ne_bN]
      by_cases q1 : μ A = 3 + 11
      · rw [decide_eq_true q1, cond_true]
        exact e23 _ _ _
      · rw [decide_eq_false q1, cond_false, bI_ok (h.wd (x := 12) (w := 12) rfl (by omega) (d' + 2)), c1_eq_bN, decide_eq_true (show μ A = 3 + 12 by omega), cond_true]
        exact e23 _ _ _
    · rw [e130_5 (d' + 4), bI_ok (h.wd (x := 11) (w := 11) rfl (by omega) (d' + 2)), c1_ne_bN, decide_eq_false (show ¬ μ A = 3 + 11 by omega), cond_false, bI_ok (h.wd (x := 12) (w := 12) rfl (by omega) (d' + 2)), c1_eq_bN, decide_eq_false (show ¬ μ A = 3 + 12 by omega), cond_false, e130_44 (d' + 4)]
      rcases simple_ok hE h hX ⟨by omega, by omega⟩ hB hn (by omega) with ⟨a, σ2, τ2, f1, f2, A3, P3, y1, y2, y3, y4, y5, y6⟩ | ⟨σ0, τ0, kk, p, f1, f2, f3, f4⟩
      · subst y1
        rw [bI_ok f1]
        exact Or.inl ⟨A3, P3, σ2, τ2, _, _, rfl, f2, y2, y3, y4, y5, y6⟩
      · rw [bI_ex f1]
        exact Or.inr ⟨σ0, τ0, kk, p, rfl, f2, f3, f4⟩
theorem atom_nt {B : Nat} (hE : NT L xs K1 K2 m μ g fc 1 119 0 0 [jv] B) : NT L xs K1 K2 m μ g fc 13 130 6 6 [jv, jv, jv, jv] (B + 1) := by
  intro sc fs D H n A P r σ τ d h hX hB hn hd
  obtain ⟨d, rfl⟩ : ∃ d', d = d' + 1 := ⟨d - 1, by omega⟩
  obtain ⟨o1, o2, o3, o4, o5, o6, ⟨s1, s2, s3, s4, s5, s6, s7, s8, s9, s10, s11, s12⟩, o8, o9, o10⟩ := h.all
  rw [e130_0, s5]
  rcases atom_loop hE (base := H) (d := d) (by omega) (m - A + 1) n r H A P σ τ jv jv jv (by omega) (Nat.le_refl _) (by omega) hn h hX with ⟨A3, P3, σ', τ', w3, w4, z1, z2, z3, z4, z5, z6, z7⟩ | hF
  · obtain ⟨_, _, _, _, _, _, ⟨_, _, _, _, r5, _⟩, _⟩ := z3.all
    rw [z1, e130_49, r5, c2_le (by omega) (by omega) (by omega) (by omega), c_t (by omega), e130_122]
    exact Or.inl ⟨_, σ', τ', rfl, z2, A3, P3, rfl, z3, z4, z5, z6, z7⟩
  · exact Or.inr hF
end ATOM
