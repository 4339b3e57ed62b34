/-! TYPES OF THE COMPONENT: a copy is filled, whole -/
section CPF
variable {L : Nat} {xs : Nat → Int32} {σ σ' : tvS}
def gSet (G : tG) (n a b : Nat) : tG := (G.1, fun x => if x = n then a else G.2.1 x, fun x => if x = n then b else G.2.2 x)
theorem cpI.fin {N0 : Nat} {G0 : tG} {r : Nat → Nat} {hl0 : Nat → List Nat} {hv0 : Nat → Nat} {H0 : Nat} {RS : Nat → Prop} {N : Nat} {G : tG} {hl : Nat → List Nat} {hv : Nat → Nat} {H : Nat} {im : Nat → Nat} {SL : List Nat} {PL : List (Nat × Nat)} {W : List Nat} {t va vb : Nat}
    (hI : cpI N0 G0 r hl0 hv0 H0 RS N G hl hv H im SL PL [t] W) (hK : cpK G0 r N im SL t va vb σ) (h1 : ∀ i, i ∈ hl0 t → G0.1 (r (hv0 i)) ≠ 1 → ∃ j, j ∈ hl (im t) ∧ cov G0 r SL im (hv0 i) (hv j)) (h2 : ∀ j, j ∈ hl (im t) → ∃ i, i ∈ hl0 t ∧ G0.1 (r (hv0 i)) ≠ 1 ∧ cov G0 r SL im (hv0 i) (hv j)) :
    cpI N0 G0 r hl0 hv0 H0 RS N (gSet G (im t) va vb) hl hv H im SL PL [] W := by
  obtain ⟨i1, i2, i3, i4, i5, i6, i7, i8, i9, i10, i11, i12, i13, i14, i15, i16⟩ := hI
  have ht : t ∈ SL := i6 t (List.mem_append_left _ (List.mem_singleton.mpr rfl))
  obtain ⟨t1, t2, t3, t4, t5⟩ := i3 t ht
  refine ⟨i1, i2, i3, i4, i5, fun s hs => i6 s (List.mem_append_right _ hs), (List.nodup_append.mp i7).2.1, fun s hs hns => ?_, i9, fun x hx => ?_, i11, i12, i13, i14, i15, i16⟩
  · by_cases e : s = t
    · subst e
      refine ⟨fun hk => ?_, h1, h2⟩
      obtain ⟨z1, z2, z3, z4⟩ := hK hk
      refine ⟨?_, fun h3 => ?_⟩
      · rw [show (gSet G (im s) va vb).2.1 (im s) = va from if_pos rfl]; exact z3
      · rw [show (gSet G (im s) va vb).2.2 (im s) = vb from if_pos rfl]; exact (z4 h3).2.2
    · have hne : im s ≠ im t := fun q => e (i4 s t hs ht q)
      obtain ⟨y1, y2, y3⟩ := i8 s hs (fun q => by
        rcases List.mem_append.mp q with q | q
        · exact e (List.mem_singleton.mp q)
        · exact hns q)
      rw [show (gSet G (im t) va vb).2.1 (im s) = G.2.1 (im s) from if_neg hne, show (gSet G (im t) va vb).2.2 (im s) = G.2.2 (im s) from if_neg hne]
      exact ⟨y1, y2, y3⟩
  · rw [show (gSet G (im t) va vb).2.1 x = G.2.1 x from if_neg (by omega), show (gSet G (im t) va vb).2.2 x = G.2.2 x from if_neg (by omega)]
    exact i10 x hx
theorem cpS.fin {K1 K2 N0 S : Nat} {G0 : tG} {r : Nat → Nat} {N : Nat} {G : tG} {hl : Nat → List Nat} {hv : Nat → Nat} {H : Nat} {im : Nat → Nat} {SL : List Nat} {W : List Nat} {t va vb : Nat}
    (hM : cpS K1 K2 N0 S r N G hl hv H im SL [t] W σ) (hK : cpK G0 r N im SL t va vb σ) (hg : G.1 (im t) = G0.1 t) (hlt : im t < N) : cpS K1 K2 N0 S r N (gSet G (im t) va vb) hl hv H im SL [] W σ := by
  obtain ⟨⟨a1, a2, a3, a4, a5, a6, a7, a8⟩, m2, m3, m4, m5, m6, m7⟩ := hM
  refine ⟨⟨a1, a2, a3, a4, a5, a6, fun x hx => ⟨(a7 x hx).1, (a7 x hx).2.1, fun h hq => ?_⟩, a8⟩, m2, m3, m4, m5, m6, m7⟩
  by_cases e : x = im t
  · subst e
    have h' : 2 ≤ G.1 (im t) := h
    obtain ⟨z1, z2, z3, z4⟩ := hK (by rw [← hg]; exact h')
    rw [show (gSet G (im t) va vb).2.1 (im t) = va from if_pos rfl, show (gSet G (im t) va vb).2.2 (im t) = vb from if_pos rfl]
    refine ⟨z1, z2, fun h3 => ?_⟩
    have h3' : G.1 (im t) ≠ 3 := h3
    obtain ⟨z5, z6, _⟩ := z4 (by rw [← hg]; exact h3')
    exact ⟨z5, z6⟩
  · rw [show (gSet G (im t) va vb).2.1 x = G.2.1 x from if_neg e, show (gSet G (im t) va vb).2.2 x = G.2.2 x from if_neg e]
    exact (a7 x hx).2.2 h (fun s hs => by
      rcases List.mem_append.mp hs with q | q
      · rw [List.mem_singleton.mp q]; exact fun k => e k.symm
      · exact hq s q)
/-- a part of the one at hand is set -/
theorem cpS.set {K1 K2 N0 S : Nat} {r : Nat → Nat} {N : Nat} {G : tG} {hl : Nat → List Nat} {hv : Nat → Nat} {H : Nat} {im : Nat → Nat} {SL : List Nat} {W : List Nat} {t k : Nat} {x : Int32} (hM : cpS K1 K2 N0 S r N G hl hv H im SL [t] W σ) (hk : k = 53 ∨ k = 54) : cpS K1 K2 N0 S r N G hl hv H im SL [t] W (wr σ k (im t) x) := by
  obtain ⟨⟨a1, a2, a3, a4, a5, a6, a7, a8⟩, m2, m3, m4, m5, m6, m7⟩ := hM
  have k50 : k ≠ 50 := by omega
  have w : frT [53, 54] [] [] σ (wr σ k (im t) x) := frT_wr (by rcases hk with h | h <;> subst h <;> rfl) k50
  have wW : frW [53, 54] σ (wr σ k (im t) x) := frW_wr (by rcases hk with h | h <;> subst h <;> rfl)
  refine ⟨⟨by rw [w.2 8 rfl]; exact a1, a2, a3, a4, a5.fr (fun i => w.rd (j := 52) rfl i), a6, fun y hy => ⟨by rw [w.rd (j := 51) rfl]; exact (a7 y hy).1, (a7 y hy).2.1, fun h hq => ?_⟩, a8⟩, m2.T w rfl ⟨rfl, rfl, rfl, rfl⟩ ⟨rfl, rfl⟩, m3.T w rfl rfl, m4.fr wW rfl rfl, m5.wr, fun s => by rw [w.rd (j := 57) rfl]; exact m6 s, fun s hs => by rw [w.rd (j := 58) rfl]; exact m7 s hs⟩
  have hne : y ≠ im t := fun e => hq t (List.mem_append_left _ (List.mem_singleton.mpr rfl)) e.symm
  rw [wr_nei hne, wr_nei hne]
  exact (a7 y hy).2.2 h hq
theorem fill_c {K1 K2 N0 S b1 b2 : Nat} {G0 : tG} {r : Nat → Nat} {hl0 : Nat → List Nat} {hv0 : Nat → Nat} {H0 : Nat} {RS : Nat → Prop} (hB : cpB N0 G0 r hl0 hv0 H0 RS b1 b2) (h0 : ∀ x, G0.1 x ≤ 4) (hb : N0 + b1 < 122880) (hb2 : H0 + b2 < 212992) (hS : 1 ≤ S) (hS2 : S < 2147483648) (hi1 : ∀ x, G0.1 x = 1 ↔ x = 0) (d : Nat) :
    ∀ (n : Nat) {N : Nat} {G : tG} {hl : Nat → List Nat} {hv : Nat → Nat} {H : Nat} {im : Nat → Nat} {SL : List Nat} {PL : List (Nat × Nat)} {W : List Nat} {σ : tvS}, cpI N0 G0 r hl0 hv0 H0 RS N G hl hv H im SL PL [] W → cpS K1 K2 N0 S r N G hl hv H im SL [] W σ → 2 * (b1 - SL.length) + W.length ≤ n → ∀ v1 v2 v3 v4 : Value,
      ∃ (σ' : tvS) (N' : Nat) (G' : tG) (hl' : Nat → List Nat) (hv' : Nat → Nat) (H' : Nat) (im' : Nat → Nat) (SL' : List Nat) (PL' : List (Nat × Nat)), rn L xs (d + 4) 86 0 [.ref 50, v1, v2, v3, v4] [] σ = some (.inl none, σ') ∧
        cpI N0 G0 r hl0 hv0 H0 RS N' G' hl' hv' H' im' SL' PL' [] [] ∧ cpS K1 K2 N0 S r N' G' hl' hv' H' im' SL' [] [] σ' ∧ (∀ s, s ∈ SL → s ∈ SL' ∧ im' s = im s) ∧ frT (59 :: 60 :: FCP) (59 :: 60 :: TCP) [8, 11, 14] σ σ' := by
  intro n
  have base : ∀ {N : Nat} {G : tG} {hl : Nat → List Nat} {hv : Nat → Nat} {H : Nat} {im : Nat → Nat} {SL : List Nat} {PL : List (Nat × Nat)} {σ : tvS}, cpI N0 G0 r hl0 hv0 H0 RS N G hl hv H im SL PL [] [] → cpS K1 K2 N0 S r N G hl hv H im SL [] [] σ → ∀ v1 v2 v3 v4 : Value,
      ∃ (σ' : tvS) (N' : Nat) (G' : tG) (hl' : Nat → List Nat) (hv' : Nat → Nat) (H' : Nat) (im' : Nat → Nat) (SL' : List Nat) (PL' : List (Nat × Nat)), rn L xs (d + 4) 86 0 [.ref 50, v1, v2, v3, v4] [] σ = some (.inl none, σ') ∧
        cpI N0 G0 r hl0 hv0 H0 RS N' G' hl' hv' H' im' SL' PL' [] [] ∧ cpS K1 K2 N0 S r N' G' hl' hv' H' im' SL' [] [] σ' ∧ (∀ s, s ∈ SL → s ∈ SL' ∧ im' s = im s) ∧ frT (59 :: 60 :: FCP) (59 :: 60 :: TCP) [8, 11, 14] σ σ' := by
    intro N G hl hv H im SL PL σ hI hM v1 v2 v3 v4
    refine ⟨σ, N, G, hl, hv, H, im, SL, PL, ?_, hI, hM, fun s hs => ⟨hs, rfl⟩, frT.refl⟩
    rw [e86_0, hM.2.2.2.1.1, c1_le (by show -2147483648 ≤ ((0 : Nat) : Int); omega) (by show ((0 : Nat) : Int) < _; omega), c_t (by show ((0 : Nat) : Int) ≤ 0; omega), e86_130]
  induction n with
  | zero =>
    intro N G hl hv H im SL PL W σ hI hM hn v1 v2 v3 v4
    have : W = [] := List.eq_nil_of_length_eq_zero (by omega)
    subst this
    exact base hI hM v1 v2 v3 v4
  | succ n ih =>
    intro N G hl hv H im SL PL W σ hI hM hn v1 v2 v3 v4
    cases W with
    | nil => exact base hI hM v1 v2 v3 v4
    | cons t W =>
      have hI1 : cpI N0 G0 r hl0 hv0 H0 RS N G hl hv H im SL PL [t] W := by
        obtain ⟨i1, i2, i3, i4, i5, i6, i7, i8, i9, i10⟩ := hI
        exact ⟨i1, i2, i3, i4, i5, i6, i7, i8, fun s hs => i9 s (List.mem_cons_of_mem _ hs), i10⟩
      have hlt0 : hl (im t) = [] := hI.2.2.2.2.2.2.2.2.1 t List.mem_cons_self
      have htS : t ∈ SL := hI.2.2.2.2.2.1 t List.mem_cons_self
      obtain ⟨t1, t2, t3, t4, t5⟩ := hI.2.2.1 t htS
      obtain ⟨b3, b4, b5, b6⟩ := hB.1 t t1
      have hN := hM.1.lt hM.2.2.2.2.1
      have hn' : 2 * (b1 - SL.length) + (W.length + 1) ≤ n + 1 := hn
      have lW := hM.2.2.2.2.1.le (k := 61) (M := 524288) (by decide)
      obtain ⟨p1, q1⟩ := pop_c (L := L) (xs := xs) (x := (t : Int)) (W := ints W) hM.2.2.2.1 (by omega) (d + 2)
      have w1 : frT [] [] [14] σ (wr σ 50 14 (i32 ((ints W).length : Int))) := frT_w50 rfl
      have M1 : cpS K1 K2 N0 S r N G hl hv H im SL [t] W (wr σ 50 14 (i32 ((ints W).length : Int))) := ⟨hM.1.T w1 rfl ⟨rfl, rfl, rfl, rfl⟩ (fun _ _ _ => rfl), hM.2.1.T w1 rfl ⟨rfl, rfl, rfl, rfl⟩ ⟨rfl, rfl⟩, hM.2.2.1.T w1 rfl rfl, q1, hM.2.2.2.2.1.wr, fun s => by rw [w1.rd (j := 57) rfl]; exact hM.2.2.2.2.2.1 s, fun s hs => by rw [w1.rd (j := 58) rfl]; exact hM.2.2.2.2.2.2 s hs⟩
      have hl1 : 2 * (b1 - SL.length) + (ints W).length ≤ 2 * (b1 - SL.length) + (ints W).length := Nat.le_refl _
      have hlenW : W.length ≤ n - 2 * (b1 - SL.length) := by omega
      generalize hs1 : wr σ 50 14 (i32 ((ints W).length : Int)) = s1 at *
      have len := fun j h1 h2 => M1.1.len M1.2.2.2.2.1 (j := j) h1 h2
      have l51 := len 51 (by omega) (by omega)
      have l53 := len 53 (by omega) (by omega)
      have l54 := len 54 (by omega) (by omega)
      have l55 := len 55 (by omega) (by omega)
      have l58 := len 58 (by omega) (by omega)
      have g10 := hI1.2.2.2.2.2.2.2.2.2.1 t b3
      obtain ⟨k1, k2, k3⟩ := M1.1.2.2.2.2.2.2.1 t (by omega)
      rw [g10.1] at k1 k2 k3
      have Kt : ∀ s, s ∈ [t] ++ W → im s ≠ t := fun s hs q => by
        have := (hI1.2.2.1 s (hI1.2.2.2.2.2.1 s hs)).2.2.1; omega
      have start : rn L xs (d + 4) 86 0 [.ref 50, v1, v2, v3, v4] [] σ = cond (decide ((G0.1 t : Int) < 2)) (rn L xs (d + 4) 86 47 [.ref 50, .int (i32 t), .int (i32 (im t)), dj v3, dj v4] [] s1) (bI (rn L xs (d + 3) 83 0 [.ref 50, .int (rd s1 53 t), jv, jv] [] s1) (fun a4 s3 => cond (pv_in (i32 (im t)) (ln s3 53)) (rn L xs (d + 4) 86 47 [.ref 50, .int (i32 t), .int (i32 (im t)), .int a4, dj (dj v4)] [] (wr s3 53 (ix (i32 (im t))) a4)) none) X0) := by
        have hlen : ((ints (t :: W)).length : Int) = ((ints W).length : Int) + 1 := by show (((ints W).length + 1 : Nat) : Int) = _; omega
        have hlW : (ints W).length ≤ 524288 := by have := q1.2.1; rw [← hs1] at this; exact Nat.le_trans this lW
        rw [e86_0 (d + 3), hM.2.2.2.1.1, hlen, c1_le (by omega) (by omega), c_f (by omega), bI_ok p1, c_in (by omega) (by omega) (by omega), c_in (by omega) (by omega) (by omega), i32_ixn (by omega), k1, show (2 : Int32) = i32 2 from rfl, c2_lt (by omega) (by omega) (by omega) (by omega), c_in (by omega) (by omega) (by omega), M1.2.2.2.2.2.2 t htS]
      -- once the parts are set
      have hold : ∀ {N1 : Nat} {G1 : tG} {im1 : Nat → Nat} {SL1 W1 : List Nat} {s : tvS} {va vb : Nat} (u3 u4 : Value), cpI N0 G0 r hl0 hv0 H0 RS N1 G1 hl hv H im1 SL1 PL [t] W1 → cpS K1 K2 N0 S r N1 G1 hl hv H im1 SL1 [t] W1 s → cpK G0 r N1 im1 SL1 t va vb s → 2 * (b1 - SL1.length) + W1.length ≤ n → (∀ y, y ∈ SL → y ∈ SL1 ∧ im1 y = im y) → frT (59 :: 60 :: FCP) (59 :: 60 :: TCP) [8, 11, 14] σ s →
          ∃ (σ' : tvS) (N' : Nat) (G' : tG) (hl' : Nat → List Nat) (hv' : Nat → Nat) (H' : Nat) (im' : Nat → Nat) (SL' : List Nat) (PL' : List (Nat × Nat)), rn L xs (d + 4) 86 85 [.ref 50, .int (i32 t), .int (i32 (im t)), u3, u4] [] s = some (.inl none, σ') ∧
            cpI N0 G0 r hl0 hv0 H0 RS N' G' hl' hv' H' im' SL' PL' [] [] ∧ cpS K1 K2 N0 S r N' G' hl' hv' H' im' SL' [] [] σ' ∧ (∀ s, s ∈ SL → s ∈ SL' ∧ im' s = im s) ∧ frT (59 :: 60 :: FCP) (59 :: 60 :: TCP) [8, 11, 14] σ σ' := by
        intro N1 G1 im1 SL1 W1 s va vb u3 u4 hI' hM' hK' hms hex hfr
        have eim : im1 t = im t := (hex t htS).2
        have l55' := hM'.1.len hM'.2.2.2.2.1 (j := 55) (by omega) (by omega)
        have hN1 := hI'.1
        rw [e86_85, c_in (by omega) (by omega) (by omega), i32_ixn (by omega)]
        have hch : chL s (hl0 t) (rd s 55 t) := by
          have := (hM'.2.1.2.2.2.2.1 t (by omega) b4).1
          rw [hI'.2.2.2.2.2.2.2.2.2.2.1 t b3] at this; exact this
        rw [← eim]
        obtain ⟨s2, N2, G2, hl2, hv2, H2, im2, SL2, PL2, W2, z1, z3, z4, j1, j2, j3, j4, j5, j6, j7, j8, j9, j10⟩ := fill_hold (L := L) (xs := xs) hB h0 hb hb2 hS hS2 hi1 d (hl0 t) [] rfl hI' hM' hK' hch (fun i hi => (by cases hi)) (fun j hj => by rw [eim, hlt0] at hj; cases hj) (.int (i32 t)) u4
        rw [j1, e86_127]
        have htS2 := (j9 t (hex t htS).1).1
        have f2 := j2.2.2.1 t htS2
        obtain ⟨σ', N', G', hl', hv', H', im', SL', PL', y1, y2, y3, y4, y5⟩ := ih (j2.fin j4 j5 j6) (j3.fin (G0 := G0) j4 f2.2.2.2.2 f2.2.2.2.1) (by omega) z1 (.int (i32 (im1 t))) z3 z4
        exact ⟨σ', N', G', hl', hv', H', im', SL', PL', y1, y2, y3, fun y hy => ⟨(y4 y (j9 y (hex y hy).1).1).1, by rw [(y4 y (j9 y (hex y hy).1).1).2, (j9 y (hex y hy).1).2, (hex y hy).2]⟩, hfr.trans (j10.trans y5)⟩
      have fr1 : frT (59 :: 60 :: FCP) (59 :: 60 :: TCP) [8, 11, 14] σ s1 := w1.sub rfl rfl rfl
      rw [start]
      by_cases z2 : G0.1 t < 2
      · -- an unknown
        rw [c_t (by omega), e86_47, c_in (by omega) (by omega) (by omega), i32_ixn (by omega), k1, show (2 : Int32) = i32 2 from rfl, c2_eq (by omega) (by omega) (by omega) (by omega), c_f (by omega), c_in (by omega) (by omega) (by omega), show (4 : Int32) = i32 4 from rfl, c2_ne (by omega) (by omega) (by omega) (by omega), c_t (by omega)]
        exact hold (va := 0) (vb := 0) _ _ hI1 M1 (fun hk => absurd hk (by omega)) (by omega) (fun y hy => ⟨hy, rfl⟩) fr1
      · obtain ⟨k4, k5, k6⟩ := k3 (by omega) Kt
        rw [g10.2.1] at k4 k5
        obtain ⟨b7, b8, b9⟩ := b5 (by omega)
        rw [c_f (by omega), k4]
        obtain ⟨s2, N1, G1, im1, SL1, W1, va, c1, I2, M2, cva, vl, nl, ext, gO, ms, hWW, fr2⟩ := copy_c (L := L) (xs := xs) hB h0 hb hS hS2 hI1 M1 b7 b8 d jv jv
        have eim : im1 t = im t := (ext t htS).2
        have htS1 := (ext t htS).1
        have hN1 := M2.1.lt M2.2.2.2.2.1
        have imlt := (I2.2.2.1 t htS1).2.2.2.1
        rw [eim] at imlt
        have len2 := fun j h1 h2 => M2.1.len M2.2.2.2.2.1 (j := j) h1 h2
        have l53' := len2 53 (by omega) (by omega)
        rw [bI_ok c1, c_in (by omega) (by omega) (by omega), i32_ixn (by omega)]
        have M3 : cpS K1 K2 N0 S r N1 G1 hl hv H im1 SL1 [t] W1 (wr s2 53 (im1 t) (i32 (va : Int))) := M2.set (.inl rfl)
        rw [eim] at M3
        have fr3 : frT (59 :: 60 :: FCP) (59 :: 60 :: TCP) [8, 11, 14] σ (wr s2 53 (im t) (i32 (va : Int))) := fr1.trans ((fr2.1.sub rfl rfl rfl).trans (frT_wr rfl (by decide)))
        have r53 : rd (wr s2 53 (im t) (i32 (va : Int))) 53 (im t) = i32 (va : Int) := wr_self _ _ _ _
        have r54 : ∀ i, i < N → rd (wr s2 53 (im t) (i32 (va : Int))) 54 i = rd s1 54 i := fun i hi => by rw [wr_nek (by decide)]; exact (fr2.2 i hi).2.2.1
        have r51 : rd (wr s2 53 (im t) (i32 (va : Int))) 51 t = i32 (G0.1 t : Int) := by rw [wr_nek (by decide), (fr2.2 t (by omega)).1]; exact k1
        generalize hs3 : wr s2 53 (im t) (i32 (va : Int)) = s3 at *
        have len3 := fun j h1 h2 => M3.1.len M3.2.2.2.2.1 (j := j) h1 h2
        have l51' := len3 51 (by omega) (by omega)
        have l54' := len3 54 (by omega) (by omega)
        rw [e86_47, c_in (by omega) (by omega) (by omega), i32_ixn (by omega), r51, show (2 : Int32) = i32 2 from rfl, c2_eq (by omega) (by omega) (by omega) (by omega)]
        by_cases z3 : G0.1 t = 3
        · rw [c_f (by omega), c_in (by omega) (by omega) (by omega), show (4 : Int32) = i32 4 from rfl, c2_ne (by omega) (by omega) (by omega) (by omega), c_t (by omega)]
          exact hold (va := va) (vb := 0) _ _ I2 M3 (fun hk => ⟨by rw [eim]; exact r53, vl, cva, fun h3 => absurd z3 h3⟩) (by omega) ext fr3
        · obtain ⟨b10, b11⟩ := b9 z3
          have k7 : rd s1 54 t = i32 (G0.2.2 t : Int) := by
            have := (k6 z3).1; rw [g10.2.2] at this; exact this
          have to67 : ∀ u3 u4 : Value, cond (decide ((G0.1 t : Int) = 2)) (rn L xs (d + 4) 86 67 [.ref 50, .int (i32 t), .int (i32 (im t)), u3, u4] [] s3) (cond (pv_in (i32 t) (ln s3 51)) (cond (pv_c2 .ne (i32 (G0.1 t : Int)) 4) (rn L xs (d + 4) 86 85 [.ref 50, .int (i32 t), .int (i32 (im t)), u3, u4] [] s3) (rn L xs (d + 4) 86 67 [.ref 50, .int (i32 t), .int (i32 (im t)), u3, u4] [] s3)) none) = rn L xs (d + 4) 86 67 [.ref 50, .int (i32 t), .int (i32 (im t)), u3, u4] [] s3 := by
            intro u3 u4
            by_cases z4 : G0.1 t = 2
            · rw [c_t (by omega)]
            · rw [c_f (by omega), c_in (by omega) (by omega) (by omega), show (4 : Int32) = i32 4 from rfl, c2_ne (by omega) (by omega) (by omega) (by omega), c_f (by omega)]
          have go := to67 (.int (i32 (va : Int))) (dj (dj v4))
          rw [show d + 3 + 1 = d + 4 from rfl, go, e86_67 (d + 3), c_in (by omega) (by omega) (by omega), i32_ixn (by omega), r54 t (by omega), k7]
          obtain ⟨s4, N2, G2, im2, SL2, W2, vb, c2, I4, M4, cvb, vl2, nl2, ext2, gO2, ms2, hWW2, fr4⟩ := copy_c (L := L) (xs := xs) hB h0 hb hS hS2 I2 M3 b10 b11 d jv jv
          have eim2 : im2 t = im t := by rw [(ext2 t htS1).2, eim]
          have len4 := fun j h1 h2 => M4.1.len M4.2.2.2.2.1 (j := j) h1 h2
          have l54'' := len4 54 (by omega) (by omega)
          have imlt2 := (I4.2.2.1 t (ext2 t htS1).1).2.2.2.1
          rw [eim2] at imlt2
          have hN2 := M4.1.lt M4.2.2.2.2.1
          rw [bI_ok c2, c_in (by omega) (by omega) (by omega), i32_ixn (by omega)]
          have M5 : cpS K1 K2 N0 S r N2 G2 hl hv H im2 SL2 [t] W2 (wr s4 54 (im2 t) (i32 (vb : Int))) := M4.set (.inr rfl)
          rw [eim2] at M5
          refine hold (va := va) (vb := vb) _ _ I4 M5 (fun hk => ⟨?_, by omega, cva.mono ext2, fun h3 => ⟨by rw [eim2, wr_self], vl2, cvb⟩⟩) (by omega) (fun y hy => ⟨(ext2 y (ext y hy).1).1, by rw [(ext2 y (ext y hy).1).2, (ext y hy).2]⟩) (fr3.trans ((fr4.1.sub rfl rfl rfl).trans (frT_wr rfl (by decide))))
          rw [eim2, wr_nek (by decide), (fr4.2 (im t) imlt).2.1]; exact r53
end CPF
