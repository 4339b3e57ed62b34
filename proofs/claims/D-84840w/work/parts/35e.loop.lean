/-! TYPES OF THE MODEL: a copy, whole -/
section CPX
variable {L : Nat} {xs : Nat → Int32} {σ σ' : tvS}
theorem cmS.mark {N0 S Sh : Nat} {r : Nat → Nat} {N : Nat} {G : tG} {hl : Nat → List Nat} {hv : Nat → Nat} {H : Nat} {im : Nat → Nat} {SL cur : List Nat} {o : Nat} {Q : List Nat} {z : Prop} (hM : cmS N0 S r N G hl hv H Sh im SL cur o Q z σ) : cmS N0 S r N G hl hv H (Sh + 1) im SL cur o Q z (wr σ 123 84 (i32 ((Sh + 1 : Nat) : Int))) := by
  obtain ⟨m1, m2, m3, m4, m5, m6, m7, m8, m9⟩ := hM
  have w : frM [] [84] σ (wr σ 123 84 (i32 ((Sh + 1 : Nat) : Int))) := frM_w rfl
  refine ⟨m1.fr w rfl ⟨rfl, rfl, rfl, rfl⟩, m2.fr w rfl ⟨rfl, rfl, rfl⟩, m3.fr w rfl ⟨rfl, rfl⟩, ⟨wr_self _ _ _ _, fun y hy => ?_⟩, m5.congr (fun i _ _ => w.rd (j := 176) rfl i), fun s hs => by rw [w.rd (j := 171) rfl]; exact m6 s hs, fun s hs => by rw [w.rd (j := 173) rfl]; exact m7 s hs, fun hz => by rw [w.rd (j := 173) rfl]; exact m8 hz, m9⟩
  obtain ⟨s, a, b⟩ := m4.2 y hy
  exact ⟨s, by omega, by rw [w.rd (j := 183) rfl]; exact b⟩
/-- from what is held on to the next of the row -/
theorem tail_m {N0 S Sh b1 b2 : Nat} {G0 : tG} {r : Nat → Nat} {hl0 : Nat → List Nat} {hv0 : Nat → Nat} {H0 : Nat} {RS : Nat → Prop} (hB : cpB N0 G0 r hl0 hv0 H0 RS b1 b2) (h0 : ∀ x, G0.1 x ≤ 4) (hi1 : ∀ x, G0.1 x = 1 ↔ x = 0) (hr2 : ∀ x, r (r x) = r x) (hb : N0 + b1 < 99990) (hb2 : H0 + b2 < 250000) (hb1 : b1 ≤ 40000) (hS2 : S < 2147483648) (hSh : Sh + 1 < 2147483648) {t va vb k : Nat} (d : Nat) (x2 : Int32)
    {N : Nat} {G : tG} {hl : Nat → List Nat} {hv : Nat → Nat} {H : Nat} {im : Nat → Nat} {SL : List Nat} {PL : List (Nat × Nat)} {Q : List Nat} {z : Prop} (hI : cpI N0 G0 r hl0 hv0 H0 RS N G hl hv H im SL PL [t] (nz Q)) (hM : cmS N0 S r N G hl hv H Sh im SL [t] (k + 1) Q z σ) (hK : cmK G0 r N im SL t va vb σ) (hlt0 : hl (im t) = []) {zc : Nat} (hcnt : k + 1 + Q.length + zc ≤ SL.length + 2) (v1 v7 v8 : Value) :
    ∃ (σ' : tvS) (N' : Nat) (G' : tG) (hl' : Nat → List Nat) (hv' : Nat → Nat) (H' : Nat) (im' : Nat → Nat) (SL' : List Nat) (PL' : List (Nat × Nat)) (Q' : List Nat) (z' : Prop) (w1 w5 w6 w7 w8 : Value), rn L xs (d + 4) 336 165 [.ref 123, v1, .int x2, .int (i32 (k + 1 + Q.length : Nat)), .int (i32 k), .int (i32 t), .int (i32 (im t)), v7, v8] [] σ = rn L xs (d + 4) 336 38 [.ref 123, w1, .int x2, .int (i32 (k + 1 + Q'.length : Nat)), .int (i32 (k + 1 : Nat)), w5, w6, w7, w8] [] σ' ∧
      cpI N0 G0 r hl0 hv0 H0 RS N' G' hl' hv' H' im' SL' PL' [] (nz Q') ∧ cmS N0 S r N' G' hl' hv' H' (Sh + 1) im' SL' [] (k + 1) Q' z' σ' ∧ (∀ s, s ∈ SL → s ∈ SL' ∧ im' s = im s) ∧ (z → z') ∧ frM FCH [63, 73, 84] σ σ' ∧ 2 * (b1 - SL'.length) + Q'.length ≤ 2 * (b1 - SL.length) + Q.length ∧ k + 1 + Q'.length + zc ≤ SL'.length + 2 ∧ (∀ y, y ∈ Q' → y ∈ Q ∨ RS y) := by
  have htS : t ∈ SL := hI.2.2.2.2.2.1 t (List.mem_append_left _ (List.mem_singleton.mpr rfl))
  obtain ⟨t1, t2, t3, t4, t5⟩ := hI.2.2.1 t htS
  obtain ⟨b3, b4, b5, b6⟩ := hB.1 t t1
  have hN := hM.1.2.2.1
  have hNN : N0 ≤ N := by rw [hI.1]; omega
  have hSLb : SL.length ≤ b1 := hB.2.1 SL hI.2.1 (fun t ht => ⟨(hI.2.2.1 t ht).1, (hI.2.2.1 t ht).2.1⟩)
  have e1 : rd σ 123 84 + 1 = i32 ((Sh + 1 : Nat) : Int) := by rw [hM.2.2.2.1.1, show (1 : Int32) = i32 1 from rfl, i32_add]; rfl
  have w : frM [] [84] σ (wr σ 123 84 (i32 ((Sh + 1 : Nat) : Int))) := frM_w rfl
  rw [e336_165 (d + 3), c_in (by omega) (by omega) (by omega), i32_ixn (by omega), e1]
  have hch : chW (wr σ 123 84 (i32 ((Sh + 1 : Nat) : Int))) (hl0 t) (rd σ 170 t) := by
    have := (hM.2.1.2.2.2.1 t (by omega) b4).1
    rw [hI.2.2.2.2.2.2.2.2.2.2.1 t b3] at this
    exact this.congr (fun i _ => w.rd (j := 175) rfl i)
  obtain ⟨σ', N', G', hl', hv', H', im', SL', PL', Q', z', z1, z5, z6, z7, z8, j1, j2, j3, j4, j5, j6, j7, j8, j9, j10, j11, j12, j13, j14⟩ := fillm_hold (L := L) (xs := xs) hB h0 hi1 hr2 hb hb2 hS2 hSh (show k + 1 ≤ 50000 by omega) hb1 d x2 (i32 k) (hl0 t) [] rfl hI hM.mark (fun hk => by rw [w.rd (j := 167) rfl, w.rd (j := 168) rfl]; exact hK hk) hch (by omega) (fun y hy => by
      rw [w.rd (j := 183) rfl]
      obtain ⟨s, a, b⟩ := hM.2.2.2.1.2 y (by omega)
      refine ⟨fun q => ?_, fun ⟨i, hi, _⟩ => (by cases hi)⟩
      rw [b] at q
      have := (i32_inj (by omega) (by omega) (by omega) (by omega)).mp q
      omega) (fun i hi => (by cases hi)) (fun j hj => by rw [hlt0] at hj; cases hj) v1 (.int (i32 t)) v8
  have f2 := j2.2.2.1 t (j8 t htS).1
  have eK : i32 (k : Int) + 1 = i32 ((k + 1 : Nat) : Int) := by rw [show (1 : Int32) = i32 1 from rfl, i32_add]; rfl
  have hSLle : SL.length ≤ SL'.length := nodup_len SL SL' hI.2.1 (fun s hs => (j8 s hs).1)
  have hSLb' : SL'.length ≤ b1 := hB.2.1 SL' j2.2.1 (fun t ht => ⟨(j2.2.2.1 t ht).1, (j2.2.2.1 t ht).2.1⟩)
  refine ⟨σ', N', gSet G' (im' t) va vb, hl', hv', H', im', SL', PL', Q', z', z1, z5, z6, z7, z8, ?_, j2.fin0 (fun hk => ⟨(j4 hk).2.2.1, fun h3 => ((j4 hk).2.2.2 h3).2.2⟩) j5 j6, j3.fin (G0 := G0) j4 f2.2.2.2.2, j8, j9, (w.sub rfl rfl).trans (j10.sub rfl rfl), j11, ?_, j14⟩
  · rw [j1, e336_324, eK]
  · omega
/-- the row, one by one -/
theorem cpm_loop {N0 S b1 b2 : Nat} {G0 : tG} {r : Nat → Nat} {hl0 : Nat → List Nat} {hv0 : Nat → Nat} {H0 : Nat} {RS : Nat → Prop} (hB : cpB N0 G0 r hl0 hv0 H0 RS b1 b2) (h0 : ∀ x, G0.1 x ≤ 4) (hi1 : ∀ x, G0.1 x = 1 ↔ x = 0) (hr2 : ∀ x, r (r x) = r x) (hb : N0 + b1 < 99990) (hb2 : H0 + b2 < 250000) (hb1 : b1 ≤ 40000) (hS2 : S < 2147483648) (hz0 : hl0 0 = []) (hN00 : 0 < N0) (hr0 : r 0 = 0) (d : Nat) (x2 : Int32) :
    ∀ (n : Nat) {N : Nat} {G : tG} {hl : Nat → List Nat} {hv : Nat → Nat} {H Sh : Nat} {im : Nat → Nat} {SL : List Nat} {PL : List (Nat × Nat)} {Q : List Nat} {z : Prop} {k zc : Nat} {σ : tvS}, cpI N0 G0 r hl0 hv0 H0 RS N G hl hv H im SL PL [] (nz Q) → cmS N0 S r N G hl hv H Sh im SL [] k Q z σ → (∀ t, t ∈ Q → RS t) → (z ∨ 1 ≤ zc) → k + Q.length + zc ≤ SL.length + 2 → 2 * (b1 - SL.length) + Q.length + 2 * zc ≤ n → Sh + n < 2147483648 → ∀ v1 v5 v6 v7 v8 : Value,
      ∃ (σ' : tvS) (N' : Nat) (G' : tG) (hl' : Nat → List Nat) (hv' : Nat → Nat) (H' Sh' : Nat) (im' : Nat → Nat) (SL' : List Nat) (PL' : List (Nat × Nat)) (z' : Prop) (k' : Nat) (w1 w3 w4 w5 w6 w7 w8 : Value), rn L xs (d + 4) 336 38 [.ref 123, v1, .int x2, .int (i32 (k + Q.length : Nat)), .int (i32 k), v5, v6, v7, v8] [] σ = rn L xs (d + 4) 336 330 [.ref 123, w1, .int x2, w3, w4, w5, w6, w7, w8] [] σ' ∧
        cpI N0 G0 r hl0 hv0 H0 RS N' G' hl' hv' H' im' SL' PL' [] [] ∧ cmS N0 S r N' G' hl' hv' H' Sh' im' SL' [] k' [] z' σ' ∧ (∀ s, s ∈ SL → s ∈ SL' ∧ im' s = im s) ∧ (z → z') ∧ frM FCH [63, 73, 84] σ σ' ∧ Sh' ≤ Sh + n := by
  intro n
  have base : ∀ {N : Nat} {G : tG} {hl : Nat → List Nat} {hv : Nat → Nat} {H Sh : Nat} {im : Nat → Nat} {SL : List Nat} {PL : List (Nat × Nat)} {z : Prop} {k zc m : Nat} {σ : tvS}, cpI N0 G0 r hl0 hv0 H0 RS N G hl hv H im SL PL [] (nz []) → cmS N0 S r N G hl hv H Sh im SL [] k [] z σ → k + ([] : List Nat).length + zc ≤ SL.length + 2 → ∀ v1 v5 v6 v7 v8 : Value,
      ∃ (σ' : tvS) (N' : Nat) (G' : tG) (hl' : Nat → List Nat) (hv' : Nat → Nat) (H' Sh' : Nat) (im' : Nat → Nat) (SL' : List Nat) (PL' : List (Nat × Nat)) (z' : Prop) (k' : Nat) (w1 w3 w4 w5 w6 w7 w8 : Value), rn L xs (d + 4) 336 38 [.ref 123, v1, .int x2, .int (i32 (k + ([] : List Nat).length : Nat)), .int (i32 k), v5, v6, v7, v8] [] σ = rn L xs (d + 4) 336 330 [.ref 123, w1, .int x2, w3, w4, w5, w6, w7, w8] [] σ' ∧
        cpI N0 G0 r hl0 hv0 H0 RS N' G' hl' hv' H' im' SL' PL' [] [] ∧ cmS N0 S r N' G' hl' hv' H' Sh' im' SL' [] k' [] z' σ' ∧ (∀ s, s ∈ SL → s ∈ SL' ∧ im' s = im s) ∧ (z → z') ∧ frM FCH [63, 73, 84] σ σ' ∧ Sh' ≤ Sh + m := by
    intro N G hl hv H Sh im SL PL z k zc m σ hI hM hc v1 v5 v6 v7 v8
    have hSLb : SL.length ≤ b1 := hB.2.1 SL hI.2.1 (fun t ht => ⟨(hI.2.2.1 t ht).1, (hI.2.2.1 t ht).2.1⟩)
    have hc' : k + 0 + zc ≤ SL.length + 2 := hc
    refine ⟨σ, N, G, hl, hv, H, Sh, im, SL, PL, z, k, v1, .int (i32 (k + ([] : List Nat).length : Nat)), .int (i32 k), v5, v6, v7, v8, ?_, hI, hM, fun s hs => ⟨hs, rfl⟩, id, frM.refl, by omega⟩
    rw [e336_38, show k + ([] : List Nat).length = k from rfl, c2_ge (by omega) (by omega) (by omega) (by omega), c_t (by omega)]
  induction n with
  | zero =>
    intro N G hl hv H Sh im SL PL Q z k zc σ hI hM hRQ hz hc hn hSh v1 v5 v6 v7 v8
    have : Q = [] := List.eq_nil_of_length_eq_zero (by omega)
    subst this
    exact base hI hM hc v1 v5 v6 v7 v8
  | succ n ih =>
    intro N G hl hv H Sh im SL PL Q z k zc σ hI hM hRQ hz hc hn hSh v1 v5 v6 v7 v8
    cases Q with
    | nil => exact base hI hM hc v1 v5 v6 v7 v8
    | cons t Q =>
      have hSLb : SL.length ≤ b1 := hB.2.1 SL hI.2.1 (fun t ht => ⟨(hI.2.2.1 t ht).1, (hI.2.2.1 t ht).2.1⟩)
      have hc' : k + (Q.length + 1) + zc ≤ SL.length + 2 := hc
      have hn' : 2 * (b1 - SL.length) + (Q.length + 1) + 2 * zc ≤ n + 1 := hn
      have hN := hM.1.2.2.1
      have hNN : N0 ≤ N := by rw [hI.1]; omega
      have hRt := hRQ t List.mem_cons_self
      obtain ⟨b3, b4, b5, b6⟩ := hB.1 t hRt
      have e176 : rd σ 176 k = i32 (t : Int) := hM.2.2.2.2.1.1
      have g10 := hI.2.2.2.2.2.2.2.2.2.1 t b3
      have k166 := (hM.1.2.2.2.2.2.1 t (by omega)).1
      rw [g10.1] at k166
      have k4 := h0 t
      have eKL : k + (t :: Q).length = k + 1 + Q.length := by show k + (Q.length + 1) = _; omega
      rw [eKL]
      by_cases t0 : t = 0
      · -- the int: nothing to do
        have kt : G0.1 t = 1 := (hi1 t).mpr t0
        have hnz : nz (t :: Q) = nz Q := by rw [t0]; rfl
        rw [hnz] at hI
        have hM1 : cmS N0 S r N G hl hv H Sh im SL [] (k + 1) Q z σ := by
          obtain ⟨m1, m2, m3, m4, m5, m6⟩ := hM
          rw [hnz] at m1
          exact ⟨m1, m2, m3, m4, m5.2, m6⟩
        have hlt : hl t = [] := by rw [hI.2.2.2.2.2.2.2.2.2.2.1 t b3, t0, hz0]
        have hch : rd σ 170 t = i32 (-1) := by
          have := (hM.2.1.2.2.2.1 t (by omega) b4).1
          rw [hlt] at this; exact this
        have e1 : rd σ 123 84 + 1 = i32 ((Sh + 1 : Nat) : Int) := by rw [hM.2.2.2.1.1, show (1 : Int32) = i32 1 from rfl, i32_add]; rfl
        have eK : i32 (k : Int) + 1 = i32 ((k + 1 : Nat) : Int) := by rw [show (1 : Int32) = i32 1 from rfl, i32_add]; rfl
        have w : frM [] [84] σ (wr σ 123 84 (i32 ((Sh + 1 : Nat) : Int))) := frM_w rfl
        have step : ∃ u6 u7, rn L xs (d + 4) 336 38 [.ref 123, v1, .int x2, .int (i32 (k + 1 + Q.length : Nat)), .int (i32 k), v5, v6, v7, v8] [] σ = rn L xs (d + 4) 336 38 [.ref 123, v1, .int x2, .int (i32 (k + 1 + Q.length : Nat)), .int (i32 (k + 1 : Nat)), .int (i32 t), u6, u7, v8] [] (wr σ 123 84 (i32 ((Sh + 1 : Nat) : Int))) := by
          refine ⟨.int (rd σ 173 t), .int (rd σ 170 t), ?_⟩
          rw [e336_38 (d + 3), c2_ge (by omega) (by omega) (by omega) (by omega), c_f (by omega), c_in (by omega) (by omega) (by omega), i32_ixn (by omega), e176, c_in (by omega) (by omega) (by omega), c_in (by omega) (by omega) (by omega), i32_ixn (by omega), k166, show (2 : Int32) = i32 2 from rfl, c2_lt (by omega) (by omega) (by omega) (by omega), c_t (by omega), e336_108, c_in (by omega) (by omega) (by omega), i32_ixn (by omega), k166, show (2 : Int32) = i32 2 from rfl, c2_eq (by omega) (by omega) (by omega) (by omega), c_f (by omega), c_in (by omega) (by omega) (by omega), show (4 : Int32) = i32 4 from rfl, c2_ne (by omega) (by omega) (by omega) (by omega), c_t (by omega), e336_165, c_in (by omega) (by omega) (by omega), i32_ixn (by omega), e1, e336_184, hch, i32_raw, c2_refl, e336_324, eK]
        obtain ⟨u6, u7, hstep⟩ := step
        rw [hstep]
        obtain ⟨σ', N', G', hl', hv', H', Sh', im', SL', PL', z', k', q1, q3, q4, q5, q6, q7, q8, j1, j2, j3, j4, j5, j6, j7⟩ := ih hI hM1.mark (fun s hs => hRQ s (List.mem_cons_of_mem _ hs)) hz (by omega) (by omega) (by omega) v1 (.int (i32 t)) u6 u7 v8
        exact ⟨σ', N', G', hl', hv', H', Sh', im', SL', PL', z', k', q1, q3, q4, q5, q6, q7, q8, j1, j2, j3, j4, j5, (w.sub rfl rfl).trans j6, by omega⟩
      · have kt : G0.1 t ≠ 1 := fun e => t0 ((hi1 t).mp e)
        have hnz : nz (t :: Q) = t :: nz Q := by
          show nz ([t] ++ Q) = _
          rw [nz_app, nz_one t0]; rfl
        rw [hnz] at hI
        have hI1 : cpI N0 G0 r hl0 hv0 H0 RS N G hl hv H im SL PL [t] (nz Q) := by
          obtain ⟨i1, i2, i3, i4, i5, i6, i7, i8, i9, i10⟩ := hI
          exact ⟨i1, i2, i3, i4, i5, i6, i7, i8, fun s hs => i9 s (List.mem_cons_of_mem _ hs), i10⟩
        have hM1 : cmS N0 S r N G hl hv H Sh im SL [t] (k + 1) Q z σ := by
          obtain ⟨m1, m2, m3, m4, m5, m6⟩ := hM
          rw [hnz] at m1
          exact ⟨m1, m2, m3, m4, m5.2, m6⟩
        have hlt0 : hl (im t) = [] := hI.2.2.2.2.2.2.2.2.1 t List.mem_cons_self
        have htS : t ∈ SL := hI.2.2.2.2.2.1 t List.mem_cons_self
        obtain ⟨t1, t2, t3, t4, t5⟩ := hI.2.2.1 t htS
        have e173 : rd σ 173 t = i32 (im t : Int) := hM.2.2.2.2.2.2.1 t htS
        have Kt : ∀ s, s ∈ [t] ++ nz Q → im s ≠ t := fun s hs q => by
          have := (hI1.2.2.1 s (hI1.2.2.2.2.2.1 s hs)).2.2.1; omega
        -- from the held ones on
        have fin : ∀ {N1 : Nat} {G1 : tG} {im1 : Nat → Nat} {SL1 Q1 : List Nat} {z1 : Prop} {zc1 : Nat} {s : tvS} {va vb : Nat} (u1 u7 u8 : Value), cpI N0 G0 r hl0 hv0 H0 RS N1 G1 hl hv H im1 SL1 PL [t] (nz Q1) → cmS N0 S r N1 G1 hl hv H Sh im1 SL1 [t] (k + 1) Q1 z1 s → cmK G0 r N1 im1 SL1 t va vb s → (∀ y, y ∈ Q1 → RS y) → (∀ y, y ∈ SL → y ∈ SL1 ∧ im1 y = im y) → (z → z1) → (z1 ∨ 1 ≤ zc1) → k + 1 + Q1.length + zc1 ≤ SL1.length + 2 → 2 * (b1 - SL1.length) + Q1.length + 2 * zc1 ≤ n → frM FCH [63, 73, 84] σ s →
            ∃ (σ' : tvS) (N' : Nat) (G' : tG) (hl' : Nat → List Nat) (hv' : Nat → Nat) (H' Sh' : Nat) (im' : Nat → Nat) (SL' : List Nat) (PL' : List (Nat × Nat)) (z' : Prop) (k' : Nat) (w1 w3 w4 w5 w6 w7 w8 : Value), rn L xs (d + 4) 336 165 [.ref 123, u1, .int x2, .int (i32 (k + 1 + Q1.length : Nat)), .int (i32 k), .int (i32 t), .int (i32 (im t)), u7, u8] [] s = rn L xs (d + 4) 336 330 [.ref 123, w1, .int x2, w3, w4, w5, w6, w7, w8] [] σ' ∧
              cpI N0 G0 r hl0 hv0 H0 RS N' G' hl' hv' H' im' SL' PL' [] [] ∧ cmS N0 S r N' G' hl' hv' H' Sh' im' SL' [] k' [] z' σ' ∧ (∀ s, s ∈ SL → s ∈ SL' ∧ im' s = im s) ∧ (z → z') ∧ frM FCH [63, 73, 84] σ σ' ∧ Sh' ≤ Sh + (n + 1) := by
          intro N1 G1 im1 SL1 Q1 z1 zc1 s va vb u1 u7 u8 hI' hM' hK' hR' hex hzz hzc1 hc1 hms hfr
          have eim : im1 t = im t := (hex t htS).2
          obtain ⟨s2, N2, G2, hl2, hv2, H2, im2, SL2, PL2, Q2, z2, q1, q5, q6, q7, q8, j1, j2, j3, j4, j5, j6, j7, j8, j9⟩ := tail_m (L := L) (xs := xs) hB h0 hi1 hr2 hb hb2 hb1 hS2 (by omega) d x2 hI' hM' hK' (by rw [eim]; exact hlt0) hc1 u1 u7 u8
          rw [eim] at j1
          rw [j1]
          obtain ⟨σ', N', G', hl', hv', H', Sh', im', SL', PL', z', k', p1, p3, p4, p5, p6, p7, p8, y1, y2, y3, y4, y5, y6, y7⟩ := ih j2 j3 (fun y hy => (j9 y hy).elim (hR' y) id) (hzc1.elim (fun q => .inl (j5 q)) .inr) j8 (by omega) (by omega) q1 q5 q6 q7 q8
          exact ⟨σ', N', G', hl', hv', H', Sh', im', SL', PL', z', k', p1, p3, p4, p5, p6, p7, p8, y1, y2, y3, fun y hy => ⟨(y4 y (j4 y (hex y hy).1).1).1, by rw [(y4 y (j4 y (hex y hy).1).1).2, (j4 y (hex y hy).1).2, (hex y hy).2]⟩, fun q => y5 (j5 (hzz q)), hfr.trans (j6.trans y6), by omega⟩
        have lims : k + 1 + Q.length < 100000 := by omega
        rw [e336_38 (d + 3), c2_ge (by omega) (by omega) (by omega) (by omega), c_f (by omega), c_in (by omega) (by omega) (by omega), i32_ixn (by omega), e176, c_in (by omega) (by omega) (by omega), c_in (by omega) (by omega) (by omega), i32_ixn (by omega), k166, e173, show (2 : Int32) = i32 2 from rfl, c2_lt (by omega) (by omega) (by omega) (by omega)]
        by_cases z2 : G0.1 t < 2
        · rw [c_t (by omega), e336_108, c_in (by omega) (by omega) (by omega), i32_ixn (by omega), k166, show (2 : Int32) = i32 2 from rfl, c2_eq (by omega) (by omega) (by omega) (by omega), c_f (by omega), c_in (by omega) (by omega) (by omega), show (4 : Int32) = i32 4 from rfl, c2_ne (by omega) (by omega) (by omega) (by omega), c_t (by omega)]
          exact fin (va := 0) (vb := 0) (zc1 := zc) _ _ _ hI1 hM1 (fun hk => absurd hk (by omega)) (fun y hy => hRQ y (List.mem_cons_of_mem _ hy)) (fun y hy => ⟨hy, rfl⟩) id hz (by omega) (by omega) frM.refl
        · obtain ⟨b7, b8, b9⟩ := b5 (by omega)
          have k167 : rd σ 167 t = i32 (G0.2.1 t : Int) := by
            have := ((hM1.1.2.2.2.2.2.1 t (by omega)).2.2 (by rw [g10.1]; omega) Kt).1
            rw [g10.2.1] at this; exact this
          rw [c_f (by omega), c_in (by omega) (by omega) (by omega), k167]
          obtain ⟨s1, s2, N1, G1, im1, SL1, Q1, z1, zc1, va, f1, f2, r2, vl, cva, I2, M2, nl, ext, hzz, hzc1, hc1, ms, gO, fr2, hR1⟩ := part_c (L := L) (xs := xs) hB h0 hi1 hb hS2 hI1 hM1 lims b7 b8 hz (by omega) d
          have hSL1 : SL1.length ≤ b1 := hB.2.1 SL1 I2.2.1 (fun t ht => ⟨(I2.2.2.1 t ht).1, (I2.2.2.1 t ht).2.1⟩)
          have eim : im1 t = im t := (ext t htS).2
          have ra : r (G0.2.1 t) < N0 := (hB.1 _ b8).1
          rw [bI_ok f1, bI_ok f2, c_in (by omega) (by omega) (by omega), c_in (by omega) (by omega) (by omega), i32_ixn (by omega), i32_ixn (by omega), r2]
          have M3 : cmS N0 S r N1 G1 hl hv H Sh im1 SL1 [t] (k + 1) Q1 z1 (wr s2 167 (im1 t) (i32 (va : Int))) := M2.set (.inl rfl)
          rw [eim] at M3
          have fr3 : frM FCH [63, 73, 84] σ (wr s2 167 (im t) (i32 (va : Int))) := (fr2.1.sub rfl rfl).trans (frM_wr rfl (by decide))
          have r167 : rd (wr s2 167 (im t) (i32 (va : Int))) 167 (im t) = i32 (va : Int) := wr_self _ _ _ _
          have r166 : rd (wr s2 167 (im t) (i32 (va : Int))) 166 t = i32 (G0.1 t : Int) := by rw [wr_nek (by decide), (fr2.2 t (by omega)).1]; exact k166
          have r168 : rd (wr s2 167 (im t) (i32 (va : Int))) 168 t = rd σ 168 t := by rw [wr_nek (by decide), (fr2.2 t (by omega)).2.2.1]
          generalize hs3 : wr s2 167 (im t) (i32 (va : Int)) = s3 at *
          have hRQ1 : ∀ y, y ∈ Q1 → RS y := fun y hy => (hR1 y hy).elim (fun q => hRQ y (List.mem_cons_of_mem _ q)) id
          rw [e336_108, c_in (by omega) (by omega) (by omega), i32_ixn (by omega), r166, show (2 : Int32) = i32 2 from rfl, c2_eq (by omega) (by omega) (by omega) (by omega)]
          by_cases z3 : G0.1 t = 3
          · rw [c_f (by omega), c_in (by omega) (by omega) (by omega), show (4 : Int32) = i32 4 from rfl, c2_ne (by omega) (by omega) (by omega) (by omega), c_t (by omega)]
            exact fin (va := va) (vb := 0) (zc1 := zc1) _ _ _ I2 M3 (fun hk => ⟨by rw [eim]; exact r167, vl, cva, fun h3 => absurd z3 h3⟩) hRQ1 ext hzz hzc1 (by omega) (by omega) fr3
          · obtain ⟨b10, b11⟩ := b9 z3
            have k168 : rd σ 168 t = i32 (G0.2.2 t : Int) := by
              have := (((hM1.1.2.2.2.2.2.1 t (by omega)).2.2 (by rw [g10.1]; omega) Kt).2.2 (by rw [g10.1]; exact z3)).1
              rw [g10.2.2] at this; exact this
            have to130 : ∀ u1 u7 u8 : Value, cond (decide ((G0.1 t : Int) = 2)) (rn L xs (d + 4) 336 130 [.ref 123, u1, .int x2, .int (i32 (k + 1 + Q1.length : Nat)), .int (i32 k), .int (i32 t), .int (i32 (im t)), u7, u8] [] s3) (cond (pv_in (i32 t) 100000) (cond (pv_c2 .ne (i32 (G0.1 t : Int)) 4) (rn L xs (d + 4) 336 165 [.ref 123, u1, .int x2, .int (i32 (k + 1 + Q1.length : Nat)), .int (i32 k), .int (i32 t), .int (i32 (im t)), u7, u8] [] s3) (rn L xs (d + 4) 336 130 [.ref 123, u1, .int x2, .int (i32 (k + 1 + Q1.length : Nat)), .int (i32 k), .int (i32 t), .int (i32 (im t)), u7, u8] [] s3)) none) = rn L xs (d + 4) 336 130 [.ref 123, u1, .int x2, .int (i32 (k + 1 + Q1.length : Nat)), .int (i32 k), .int (i32 t), .int (i32 (im t)), u7, u8] [] s3 := by
              intro u1 u7 u8
              by_cases z4 : G0.1 t = 2
              · rw [c_t (by omega)]
              · rw [c_f (by omega), c_in (by omega) (by omega) (by omega), show (4 : Int32) = i32 4 from rfl, c2_ne (by omega) (by omega) (by omega) (by omega), c_f (by omega)]
            have go := to130 (dj (dj v1)) (.int (i32 (r (G0.2.1 t) : Int))) (dj (dj v8))
            rw [show d + 3 + 1 = d + 4 from rfl, go, e336_130 (d + 3), c_in (by omega) (by omega) (by omega), i32_ixn (by omega), r168, k168]
            obtain ⟨s4, s5, N2, G2, im2, SL2, Q2, z4, zc2, vb, f3, f4, r4, vl2, cvb, I4, M4, nl2, ext2, hzz2, hzc2, hc2, ms2, gO2, fr4, hR2⟩ := part_c (L := L) (xs := xs) hB h0 hi1 hb hS2 I2 M3 (by omega) b10 b11 hzc1 (by omega) d
            have hSL2 : SL2.length ≤ b1 := hB.2.1 SL2 I4.2.1 (fun t ht => ⟨(I4.2.2.1 t ht).1, (I4.2.2.1 t ht).2.1⟩)
            have eim2 : im2 t = im t := by rw [(ext2 t (ext t htS).1).2, eim]
            have rb : r (G0.2.2 t) < N0 := (hB.1 _ b11).1
            rw [bI_ok f3, bI_ok f4, c_in (by omega) (by omega) (by omega), c_in (by omega) (by omega) (by omega), i32_ixn (by omega), i32_ixn (by omega), r4]
            have M5 : cmS N0 S r N2 G2 hl hv H Sh im2 SL2 [t] (k + 1) Q2 z4 (wr s5 168 (im2 t) (i32 (vb : Int))) := M4.set (.inr rfl)
            rw [eim2] at M5
            refine fin (va := va) (vb := vb) (zc1 := zc2) _ _ _ I4 M5 (fun hk => ⟨?_, by omega, cva.mono ext2, fun h3 => ⟨by rw [eim2, wr_self], vl2, cvb⟩⟩) (fun y hy => (hR2 y hy).elim (hRQ1 y) id) (fun y hy => ⟨(ext2 y (ext y hy).1).1, by rw [(ext2 y (ext y hy).1).2, (ext y hy).2]⟩) (fun q => hzz2 (hzz q)) hzc2 (by omega) (by omega) (fr3.trans ((fr4.1.sub rfl rfl).trans (frM_wr rfl (by decide))))
            have t4' : im t < N1 := by rw [← eim]; exact (I2.2.2.1 t (ext t htS).1).2.2.2.1
            rw [eim2, wr_nek (by decide), (fr4.2 (im t) t4').2.1]; exact r167
end CPX
