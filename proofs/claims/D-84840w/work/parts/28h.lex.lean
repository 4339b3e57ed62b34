/-! LEXEMES: one of both -/
section LEX7
variable {L : Nat} {xs : Nat → Int32} {c : Nat → Nat} {N : Nat} {σ τ σ' τ' : tvS}
theorem mfail_ok (h : rd τ 123 5 = 0) (d : Nat) (x y : Int32) : rn L xs (d + 1) 291 0 [.ref 123, .int x, .int y] [] τ = some (.inl none, wr (wr τ 123 5 x) 123 6 y) := by
  rw [e291_0, h]
  show cond (pv_c1 .ne 0) _ _ = _
  rw [show pv_c1 .ne 0 = false from rfl, cond_false, e291_17]
theorem hh_eq {a : Nat} (h : a < N) : hh c N a = c a := by unfold hh; rw [if_pos h]
/-- the component reads a name -/
theorem cname_ok (h : TX c N σ τ) (hw : ∀ w, w < 13 → rl σ 8 w = rl0 8 w) {m : Nat} (hm : rd σ 6 9 = i32 m) (hlt : m < 3001) (d a : Nat) (ha : a < N) (hl : ltr (c a) = true) : rn L xs (d + 3) 48 0 [.ref 6, .int (i32 a), jv] [] σ =
    if 8 < rnm c N a then some (.inl (some (.int (i32 (-1)))), σ) else
    some (.inl (some (.int (i32 (a + rnm c N a : Nat)))), cAdd (wr (wl σ 12 m (Int64.ofNat (pkc c a (rnm c N a)))) 11 m (i32 (wIx (pkc c a (rnm c N a)) 13 0))) m (if wIx (pkc c a (rnm c N a)) 13 0 < 13 then 4 else 1) (i32 a) (i32 (a + rnm c N a : Nat))) := by
  have hN := h.1
  have hle : a + rnm c N a ≤ N := run_le (by omega)
  have hal : ∀ i, i < rnm c N a → al c N (a + i) = true := fun i hi => run_at hi
  rw [e48_0 (d + 2), bI_ok (here_ok h (d + 1) a (by omega)), hh_eq ha, bI_ok (isLetter_ok (h.2.2.2 a ha).2.1 (d + 1) σ), hl, c1_eq_bN, cond_true, e51_0 (d + 1)]
  obtain ⟨w4, w5, e1⟩ := cname_loop (L := L) (xs := xs) h d a (by omega) (rnm c N a) 0 jv jv (by omega)
  have e1 : rn L xs (d + 2) 51 4 [.ref 6, .int (i32 a), .int (i32 a), .long 0, jv, jv] [] σ = _ := e1
  rw [e1, e51_52 (d + 1), i32_sub, show (8 : Int32) = i32 8 from rfl, c2_le (by omega) (by omega) (by omega) (by omega)]
  by_cases q : 8 < rnm c N a
  · rw [if_pos q, c_f (by omega)]
    rfl
  · have hP : pkc c a (rnm c N a) < 9223372036854775808 := pkc_lt8 (by omega) (fun i hi => by have := (al_c (hal i hi)).2.2.2; omega)
    rw [if_neg q, c_t (by omega), e51_62 (d + 1), show min (rnm c N a) 8 = rnm c N a by omega]
    obtain ⟨u4, e2⟩ := cword_loop (L := L) (xs := xs) (P := pkc c a (rnm c N a)) hP hw (d + 1) (i32 a) (i32 (a + rnm c N a : Nat)) 13 0 (jk w4) (by omega)
    have e2 : rn L xs (d + 2) 51 65 [.ref 6, .int (i32 a), .int (i32 (a + rnm c N a : Nat)), .long (Int64.ofNat (pkc c a (rnm c N a))), jk w4, .int 0] [] σ = _ := e2
    have hWle : wIx (pkc c a (rnm c N a)) 13 0 ≤ 13 := by have := wIx_le (pkc c a (rnm c N a)) 13 0; omega
    rw [e2, e51_90 (d + 1), hm, c_in (by omega) (by omega) (by omega), c_in (by omega) (by omega) (by omega), show (13 : Int32) = i32 13 from rfl, c2_ge (by omega) (by omega) (by omega) (by omega), i32_ixn (by omega)]
    generalize wIx (pkc c a (rnm c N a)) 13 0 = W at *
    have hm2 : rd (wr (wl σ 12 m (Int64.ofNat (pkc c a (rnm c N a)))) 11 m (i32 W)) 6 9 = i32 m := by rw [wr_nek (by decide), rd_wl]; exact hm
    by_cases q2 : W < 13
    · rw [if_pos q2, c_f (by omega), e51_124 (d + 1), bV_ok (cadd_ok hm2 hlt d _ _ _)]
      rfl
    · rw [if_neg q2, c_t (by omega), e51_123 (d + 1), e51_124 (d + 1), bV_ok (cadd_ok hm2 hlt d _ _ _)]
      rfl
/-- the model adds a name -/
theorem mname_ok {a m nm : Nat} (h : LX c N a m nm σ τ) (d : Nat) (ha : a < N) (hn : rnm c N a ≤ 8) : rn L xs (d + 4) 290 0 [.ref 123, .int (i32 a), .int (i32 (rnm c N a)), jv] [] τ =
    if wIx (pkc c a (rnm c N a)) 13 0 < 13 then some (.inl none, mAdd τ m (i32 (3 + wIx (pkc c a (rnm c N a)) 13 0 : Nat)) (i32 a) (i32 (rnm c N a)) 0) else
    if nIx c N τ (pkc c a (rnm c N a)) nm 0 < nm then some (.inl none, mAdd τ m 1 (i32 a) (i32 (rnm c N a)) (i32 (nIx c N τ (pkc c a (rnm c N a)) nm 0)))
    else some (.inl none, mAdd (wr (wr τ 131 nm (i32 a)) 123 15 (i32 (nm + 1 : Nat))) m 1 (i32 a) (i32 (rnm c N a)) (i32 nm)) := by
  obtain ⟨x1, x2, x3, x4, x5, x6, x7, x8, x9, x10, x11, x12, x13, x14⟩ := h
  have hN := x1.1
  have hle : a + rnm c N a ≤ N := run_le (by omega)
  rw [e290_0 (d + 3), show (8 : Int32) = i32 8 from rfl, c2_le (by omega) (by omega) (by omega) (by omega), c_t (by omega), e290_13 (d + 3)]
  have e1 := mword_loop (L := L) (xs := xs) x1 (d + 2) a (rnm c N a) hle 13 0 (by omega)
  refine Eq.trans e1 ?_
  by_cases q : wIx (pkc c a (rnm c N a)) 13 0 < 13
  · rw [if_pos q, if_pos q, bV_ok (madd_ok x4 (by omega) (d + 2) _ _ _ _)]
  · have e2 := nameOf_ok (L := L) (xs := xs) x1 d a nm (by omega) x5 (by omega) x11
    rw [if_neg q, if_neg q, e290_49 (d + 3)]
    by_cases q2 : nIx c N τ (pkc c a (rnm c N a)) nm 0 < nm
    · rw [if_pos q2] at e2 ⊢
      rw [bI_ok e2, bV_ok (madd_ok x4 (by omega) (d + 2) _ _ _ _)]
    · rw [if_neg q2] at e2 ⊢
      rw [bI_ok e2, bV_ok (madd_ok (m := m) (by simp only [rd_wr, Nat.reduceEqDiff, false_and, and_false, if_false, true_and]; exact x4) (by omega) (d + 2) _ _ _ _)]
/-- both read a name -/
theorem lex_name {a m nm : Nat} (h : LX c N a m nm σ τ) (d : Nat) (ha : a < N) (hl : ltr (c a) = true) (v2 v4 : Value) :
    (∃ w2 w4, rn L xs (d + 3) 48 0 [.ref 6, .int (i32 a), jv] [] σ = some (.inl (some (.int (i32 (-1)))), σ) ∧ rn L xs (d + 5) 285 43 [.ref 123, .int (i32 a), v2, .int 1, v4] [] τ = rn L xs (d + 5) 285 235 [.ref 123, .int (i32 a), w2, .int (i32 (rnm c N a)), w4] [] (wr (wr τ 123 5 1) 123 6 (i32 a))) ∨
    (∃ n nm' σ' τ' w2 w4, (1 ≤ n ∧ TKc c a n) ∧ rn L xs (d + 3) 48 0 [.ref 6, .int (i32 a), jv] [] σ = some (.inl (some (.int (i32 (a + n : Nat)))), σ') ∧ rn L xs (d + 5) 285 43 [.ref 123, .int (i32 a), v2, .int 1, v4] [] τ = rn L xs (d + 5) 285 235 [.ref 123, .int (i32 a), w2, .int (i32 n), w4] [] τ' ∧ LX c N (a + n) (m + 1) nm' σ' τ' ∧ frLC σ σ' ∧ frLM τ τ') := by
  have hh0 := h
  obtain ⟨x1, x2, x3, x4, x5, x6, x7, x8, x9, x10, x11, x12, x13, x14⟩ := h
  have hN := x1.1
  have htk : TKc c a (rnm c N a) := fun i h1 h2 => by
    have hr := run_at (p := al c N) (N := N) (s := a) (i := i - a) (by show i - a < rnm c N a; omega)
    rw [show a + (i - a) = i by omega] at hr
    have hle : a + rnm c N a ≤ N := run_le (by omega)
    unfold al at hr
    rw [hh_eq (by omega)] at hr
    unfold aln ltr dgt at hr
    simp only [Bool.or_eq_true, Bool.and_eq_true, Nat.ble_eq] at hr
    omega
  have hle : a + rnm c N a ≤ N := run_le (by omega)
  have hal : al c N a = true := by unfold al aln; rw [hh_eq ha, hl]; rfl
  have h1 : 1 ≤ rnm c N a := by
    have he : al c N (a + rnm c N a) = false := run_end (by omega) al_N
    apply Classical.byContradiction
    intro q
    rw [show a + rnm c N a = a by omega, hal] at he
    cases he
  have hc := cname_ok (L := L) (xs := xs) x1 x2 x3 (by omega) d a ha hl
  obtain ⟨w2, w4, e1⟩ := mname_loop (L := L) (xs := xs) x1 (d + 2) a (by omega) (rnm c N a - 1) 1 v2 v4 (by omega)
  have e1 : rn L xs (d + 5) 285 43 [.ref 123, .int (i32 a), v2, .int 1, v4] [] τ = _ := e1
  have hasc : ∀ i, a ≤ i → i < a + rnm c N a → c i < 128 := fun i hi hi2 => by
    have : al c N (a + (i - a)) = true := run_at (show i - a < rnm c N a by omega)
    rw [show a + (i - a) = i by omega] at this
    have := (al_c this).2.2.2
    omega
  by_cases q : 8 < rnm c N a
  · left
    rw [if_pos q] at hc
    refine ⟨dj w2, dj w4, hc, ?_⟩
    rw [e1, e285_75 (d + 4), e290_0 (d + 3), show (8 : Int32) = i32 8 from rfl, c2_le (by omega) (by omega) (by omega) (by omega), c_f (by omega), bV_ok (mfail_ok x6 (d + 2) _ _)]
    rfl
  · right
    rw [if_neg q] at hc
    have hP : pkc c a (rnm c N a) < 9223372036854775808 := pkc_lt8 (by omega) (fun i hi => by have := hasc (a + i) (by omega) (by omega); omega)
    have hm := mname_ok (L := L) (xs := xs) hh0 d ha (by omega)
    have hWle : wIx (pkc c a (rnm c N a)) 13 0 ≤ 13 := by have := wIx_le (pkc c a (rnm c N a)) 13 0; omega
    have hnl := nIx_le (c := c) (N := N) (τ := τ) (pkc c a (rnm c N a)) nm 0
    have hhit := nIx_hit (c := c) (N := N) (τ := τ) (pkc c a (rnm c N a)) nm 0
    have hmiss := nIx_miss (c := c) (N := N) (τ := τ) (pkc c a (rnm c N a)) nm 0
    have hself : ∀ τ1 : tvS, rd τ1 131 nm = i32 a → pkR c N τ1 nm = pkc c a (rnm c N a) := fun τ1 e => by unfold pkR; rw [e, i32_ixn (by omega)]
    generalize eP : pkc c a (rnm c N a) = P at *
    generalize wIx P 13 0 = W at *
    generalize nIx c N τ P nm 0 = V at *
    have fC : frLC σ (cAdd (wr (wl σ 12 m (Int64.ofNat P)) 11 m (i32 W)) m (if W < 13 then 4 else 1) (i32 a) (i32 (a + rnm c N a : Nat))) := (fr_w12.trans fr_w11).trans fr_cAdd
    have c1 : ∀ j k, k ≠ m → (j = 6 → k ≠ 9) → rd (cAdd (wr (wl σ 12 m (Int64.ofNat P)) 11 m (i32 W)) m (if W < 13 then 4 else 1) (i32 a) (i32 (a + rnm c N a : Nat))) j k = rd σ j k := fun j k hk h6 => by
      rw [cAdd_ne hk h6, wr_nei hk, rd_wl]
    have c2 : ∀ j k, k ≠ m → rl (cAdd (wr (wl σ 12 m (Int64.ofNat P)) 11 m (i32 W)) m (if W < 13 then 4 else 1) (i32 a) (i32 (a + rnm c N a : Nat))) j k = rl σ j k := fun j k hk => by
      show rl (wl σ 12 m (Int64.ofNat P)) j k = _
      rw [rl_wl, if_neg (by omega)]
    obtain ⟨k1, k2, k3, k4, k5, k6⟩ := cAdd_at (σ := wr (wl σ 12 m (Int64.ofNat P)) 11 m (i32 W)) (m := m) (κ := if W < 13 then 4 else 1) (s := i32 a) (e := i32 (a + rnm c N a : Nat))
    have k5 : rl (cAdd (wr (wl σ 12 m (Int64.ofNat P)) 11 m (i32 W)) m (if W < 13 then 4 else 1) (i32 a) (i32 (a + rnm c N a : Nat))) 12 m = Int64.ofNat P := by
      rw [k5]
      show rl (wl σ 12 m (Int64.ofNat P)) 12 m = _
      rw [rl_wl, if_pos ⟨rfl, rfl⟩]
    rw [wr_self] at k4
    by_cases q2 : W < 13
    · rw [if_pos q2] at hm
      rw [if_pos q2] at hc fC c1 c2 k1 k2 k3 k4 k5 k6
      refine ⟨rnm c N a, nm, _, mAdd τ m (i32 (3 + W : Nat)) (i32 a) (i32 (rnm c N a)) 0, dj w2, dj w4, ⟨h1, htk⟩, hc, ?_, ?_, fC, fr_mAdd⟩
      · rw [e1, e285_75 (d + 4), bV_ok hm]
      · obtain ⟨j1, j2, j3, j4, j5, j6, j7, j8⟩ := mAdd_at (τ := τ) (m := m) (μ := i32 (3 + W : Nat)) (s := i32 a) (n := i32 (rnm c N a)) (w := 0)
        refine hh0.push (by omega) hle fC fr_mAdd (Nat.le_refl _) (by omega) c1 c2 k6 (fun j k hk h1 h2 => mAdd_ne hk h2) (fun w _ => j8 w) j5 (j6.trans x5) (j7.trans x6) k2 k3 ?_ (fun w h1 h2 => by omega)
        exact ⟨a, a + rnm c N a, 3 + W, by omega, hle, k2, k3, j2, by rw [j3]; congr 2; omega, j1, hasc, fun _ _ => rfl, fun q => by omega, Or.inr (Or.inr (Or.inl ⟨by omega, by omega, k1, by rw [k4]; congr 2; omega⟩))⟩
    · rw [if_neg q2] at hm
      rw [if_neg q2] at hc fC c1 c2 k1 k2 k3 k4 k5 k6
      by_cases q3 : V < nm
      · rw [if_pos q3] at hm
        refine ⟨rnm c N a, nm, _, mAdd τ m 1 (i32 a) (i32 (rnm c N a)) (i32 V), dj w2, dj w4, ⟨h1, htk⟩, hc, ?_, ?_, fC, fr_mAdd⟩
        · rw [e1, e285_75 (d + 4), bV_ok hm]
        · obtain ⟨j1, j2, j3, j4, j5, j6, j7, j8⟩ := mAdd_at (τ := τ) (m := m) (μ := 1) (s := i32 a) (n := i32 (rnm c N a)) (w := i32 V)
          refine hh0.push (by omega) hle fC fr_mAdd (Nat.le_refl _) (by omega) c1 c2 k6 (fun j k hk h1 h2 => mAdd_ne hk h2) (fun w _ => j8 w) j5 (j6.trans x5) (j7.trans x6) k2 k3 ?_ (fun w h1 h2 => by omega)
          refine ⟨a, a + rnm c N a, 1, by omega, hle, k2, k3, j2, by rw [j3]; congr 2; omega, j1, hasc, fun _ _ => rfl, fun q => by omega, Or.inl ⟨rfl, k1, ?_, ?_, V, q3, j4, ?_⟩⟩
          · rw [k5, show a + rnm c N a - a = rnm c N a by omega, eP]
          · rw [show a + rnm c N a - a = rnm c N a by omega, eP]; exact hP
          · rw [show a + rnm c N a - a = rnm c N a by omega, eP]
            unfold pkR
            rw [j8 V]
            exact hhit (by omega)
      · rw [if_neg q3] at hm
        obtain ⟨j1, j2, j3, j4, j5, j6, j7, j8⟩ := mAdd_at (τ := wr (wr τ 131 nm (i32 a)) 123 15 (i32 (nm + 1 : Nat))) (m := m) (μ := 1) (s := i32 a) (n := i32 (rnm c N a)) (w := i32 nm)
        have fM0 : frLM τ (wr (wr τ 131 nm (i32 a)) 123 15 (i32 (nm + 1 : Nat))) := by
          refine ⟨fun k i q => ?_, rfl⟩
          simp only [rd_wr]
          rw [if_neg (by omega), if_neg (by omega)]
        have f131 : ∀ w, rd (wr (wr τ 131 nm (i32 a)) 123 15 (i32 (nm + 1 : Nat))) 131 w = if w = nm then i32 a else rd τ 131 w := fun w => by
          rw [wr_nek (by decide), rd_wr]
          simp
        refine ⟨rnm c N a, nm + 1, _, mAdd (wr (wr τ 131 nm (i32 a)) 123 15 (i32 (nm + 1 : Nat))) m 1 (i32 a) (i32 (rnm c N a)) (i32 nm), dj w2, dj w4, ⟨h1, htk⟩, hc, ?_, ?_, fC, fM0.trans fr_mAdd⟩
        · rw [e1, e285_75 (d + 4), bV_ok hm]
        · have hpkn : pkR c N (mAdd (wr (wr τ 131 nm (i32 a)) 123 15 (i32 (nm + 1 : Nat))) m 1 (i32 a) (i32 (rnm c N a)) (i32 nm)) nm = P := hself _ (by rw [j8, f131, if_pos rfl])
          refine hh0.push (by omega) hle fC (fM0.trans fr_mAdd) (by omega) (by omega) c1 c2 k6 (fun j k hk h1 h2 => by rw [mAdd_ne hk h2, wr_nek h2, wr_nek h1]) (fun w hw => by rw [j8, f131, if_neg (by omega)]) j5 (by rw [j6, wr_self]) (by rw [j7, wr_nei (by decide), wr_nek (by decide)]; exact x6) k2 k3 ?_ (fun w h1 h2 => ?_)
          · refine ⟨a, a + rnm c N a, 1, by omega, hle, k2, k3, j2, by rw [j3]; congr 2; omega, j1, hasc, fun _ _ => rfl, fun q => by omega, Or.inl ⟨rfl, k1, ?_, ?_, nm, by omega, j4, ?_⟩⟩
            · rw [k5, show a + rnm c N a - a = rnm c N a by omega, eP]
            · rw [show a + rnm c N a - a = rnm c N a by omega, eP]; exact hP
            · rw [show a + rnm c N a - a = rnm c N a by omega, eP]
              exact hpkn
          · have hw : w = nm := by omega
            subst hw
            refine ⟨⟨a, by omega, by rw [j8, f131, if_pos rfl]⟩, fun w' hw' => ?_⟩
            rw [hpkn]
            exact hmiss (by omega) w' (by omega) (by omega)
end LEX7
