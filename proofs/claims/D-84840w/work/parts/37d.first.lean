/-! TYPING, THE MODEL: a call's copy of what it calls -/
section FIRSTC
variable {L : Nat} {xs : Nat → Int32} {σ σ' : tvS}
def SGM (g kk V ng : Nat) (X : Nat → Nat) (σ : tvS) : Prop := g < 22 ∧ rd σ 140 g = i32 (kk : Int) ∧ rd σ 141 g = i32 (V : Int) ∧ V + kk ≤ 3002 ∧ (∀ k, k < kk → rd σ 179 (V + k) = i32 (X k : Int)) ∧ rd σ 180 g = i32 (X kk : Int) ∧ rd σ 191 g = i32 (ng : Int) ∧ ng < 64 ∧ ∀ k, k < ng → ∃ q : Nat, q < 64 ∧ rd σ 192 (64 * g + k) = i32 (q : Int) ∧ rd σ 193 (64 * g + q) = i32 (X (kk + 1 + k) : Int)
theorem SGM.fr {g kk V ng : Nat} {X : Nat → Nat} {S F : List Nat} (h : SGM g kk V ng X σ) (w : frM S F σ σ') (hS : inL S 140 = false ∧ inL S 141 = false ∧ inL S 179 = false ∧ inL S 180 = false ∧ inL S 191 = false ∧ inL S 192 = false ∧ inL S 193 = false) : SGM g kk V ng X σ' := by
  obtain ⟨a1, a2, a3, a4, a5, a6, a7, a8, a9⟩ := h
  obtain ⟨b1, b2, b3, b4, b5, b6, b7⟩ := hS
  refine ⟨a1, by rw [w.rd (j := 140) b1]; exact a2, by rw [w.rd (j := 141) b2]; exact a3, a4, fun k hk => by rw [w.rd (j := 179) b3]; exact a5 k hk, by rw [w.rd (j := 180) b4]; exact a6, by rw [w.rd (j := 191) b5]; exact a7, a8, fun k hk => ?_⟩
  obtain ⟨q, q1, q2, q3⟩ := a9 k hk
  exact ⟨q, q1, by rw [w.rd (j := 192) b6]; exact q2, by rw [w.rd (j := 193) b7]; exact q3⟩
def KM (n : Nat) (ce : Nat → Nat) (σ : tvS) : Prop := rd σ 123 82 = i32 (n : Int) ∧ n ≤ 60000 ∧ ∀ i, i < n → rd σ 182 i = i32 (ce i : Int)
theorem KM.fr {n : Nat} {ce : Nat → Nat} {S F : List Nat} (h : KM n ce σ) (w : frM S F σ σ') (hF : inL F 82 = false) (hS : inL S 182 = false) : KM n ce σ' :=
  ⟨by rw [w.2 82 hF]; exact h.1, h.2.1, fun i hi => by rw [w.rd (j := 182) hS]; exact h.2.2 i hi⟩
def CMK (N0 S : Nat) (G0 : tG) (r : Nat → Nat) (hl0 : Nat → List Nat) (hv0 : Nat → Nat) (H0 : Nat) (RS : Nat → Prop) (X : Nat → Nat) (n0 cnt Sh : Nat) (ce0 : Nat → Nat) (σ : tvS) : Prop :=
  ∃ (N : Nat) (G : tG) (hl : Nat → List Nat) (hv : Nat → Nat) (H : Nat) (im : Nat → Nat) (SL : List Nat) (PL : List (Nat × Nat)) (z : Prop) (k : Nat) (ce : Nat → Nat), cpI N0 G0 r hl0 hv0 H0 RS N G hl hv H im SL PL [] [] ∧ cmS N0 S r N G hl hv H Sh im SL [] k [] z σ ∧ KM (n0 + cnt) ce σ ∧ (∀ i, i < cnt → cov G0 r SL im (X i) (ce (n0 + i)) ∧ ce (n0 + i) < N) ∧ (∀ i, i < n0 → ce i = ce0 i)
def FCF : List Nat := [166, 167, 168, 169, 170, 171, 172, 173, 174, 175, 176, 182, 183]
theorem cmS.K {N0 S Sh : Nat} {r : Nat → Nat} {N : Nat} {G : tG} {hl : Nat → List Nat} {hv : Nat → Nat} {H : Nat} {im : Nat → Nat} {SL cur : List Nat} {o : Nat} {Q : List Nat} {z : Prop} (hM : cmS N0 S r N G hl hv H Sh im SL cur o Q z σ) (w : frM [182] [82] σ σ') : cmS N0 S r N G hl hv H Sh im SL cur o Q z σ' := by
  obtain ⟨m1, m2, m3, m4, m5, m6, m7, m8, m9⟩ := hM
  exact ⟨m1.fr w rfl ⟨rfl, rfl, rfl, rfl⟩, m2.fr w rfl ⟨rfl, rfl, rfl⟩, m3.fr w rfl ⟨rfl, rfl⟩, m4.fr w rfl rfl, m5.congr (fun i _ _ => w.rd (j := 176) rfl i), fun s hs => by rw [w.rd (j := 171) rfl]; exact m6 s hs, fun s hs => by rw [w.rd (j := 173) rfl]; exact m7 s hs, fun hz => by rw [w.rd (j := 173) rfl]; exact m8 hz, m9⟩
theorem cm_step {N0 S b1 b2 : Nat} {G0 : tG} {r : Nat → Nat} {hl0 : Nat → List Nat} {hv0 : Nat → Nat} {H0 : Nat} {RS : Nat → Prop} {X : Nat → Nat} {n0 cnt Sh : Nat} {ce0 : Nat → Nat} (hB : cpB N0 G0 r hl0 hv0 H0 RS b1 b2) (h0 : ∀ x, G0.1 x ≤ 4) (hi1 : ∀ x, G0.1 x = 1 ↔ x = 0) (hr2 : ∀ x, r (r x) = r x) (hb : N0 + b1 < 99990) (hb2 : H0 + b2 < 250000) (hb1 : b1 ≤ 40000) (hS2 : S < 2147483648) (hz0 : hl0 0 = []) (hN00 : 0 < N0) (hr0 : r 0 = 0) (h : CMK N0 S G0 r hl0 hv0 H0 RS X n0 cnt Sh ce0 σ) (hSh : Sh + (2 * b1 + 3) < 2147483648) (hn : n0 + cnt < 60000) (hX : X cnt < N0 ∧ RS (r (X cnt))) (d : Nat) :
    ∃ (v : Nat) (s1 σ' : tvS) (Sh' : Nat), rn L xs (d + 5) 336 0 [.ref 123, .int (i32 (X cnt : Int)), jv, jv, jv, jv, jv, jv, jv] [] σ = some (.inl (some (.int (i32 (v : Int)))), s1) ∧ σ' = wr (wr s1 182 (n0 + cnt) (i32 (v : Int))) 123 82 (i32 ((n0 + (cnt + 1) : Nat) : Int)) ∧ rd σ 123 82 = i32 ((n0 + cnt : Nat) : Int) ∧ rd s1 123 82 = i32 ((n0 + cnt : Nat) : Int) ∧ CMK N0 S G0 r hl0 hv0 H0 RS X n0 (cnt + 1) Sh' ce0 σ' ∧ Sh' ≤ Sh + (2 * b1 + 3) ∧ frM FCF [63, 73, 82, 84] σ σ' := by
  obtain ⟨N, G, hl, hv, H, im, SL, PL, z, k, ce, hI, hM, hK, hE, hO⟩ := h
  obtain ⟨s1, N', G', hl', hv', H', Sh', im', SL', PL', z', k', v, k1, I1, M1, cv, vl, ext, fr1, hS'⟩ := copyOf_m (L := L) (xs := xs) hB h0 hi1 hr2 hb hb2 hb1 hS2 hz0 hN00 hr0 hI hM hSh hX.1 hX.2 d jv jv jv jv jv jv jv
  have K1 := hK.fr fr1 rfl rfl
  have w2 : frM [182] [82] s1 (wr (wr s1 182 (n0 + cnt) (i32 (v : Int))) 123 82 (i32 ((n0 + (cnt + 1) : Nat) : Int))) := (frM_wr rfl (by decide)).trans (frM_w rfl)
  have hNN : N ≤ N' := by
    have a1 := hI.1
    have a2 := I1.1
    have := nodup_len SL SL' hI.2.1 (fun s hs => (ext s hs).1)
    omega
  refine ⟨v, s1, _, Sh', k1, rfl, hK.1, K1.1, ⟨N', G', hl', hv', H', im', SL', PL', z', k', upN ce (n0 + cnt) v, I1, M1.K w2, ⟨wr_self _ _ _ _, by omega, fun i hi => ?_⟩, fun i hi => ?_, fun i hi => ?_⟩, hS', (fr1.sub rfl rfl).trans (w2.sub rfl rfl)⟩
  · rw [wr_nek (by decide)]
    unfold upN
    by_cases q : i = n0 + cnt
    · rw [if_pos q, q, wr_self]
    · rw [if_neg q, wr_nei q]; exact K1.2.2 i (by omega)
  · unfold upN
    by_cases q : i = cnt
    · rw [if_pos (by omega), q]; exact ⟨cv, vl⟩
    · rw [if_neg (by omega)]
      have := hE i (by omega)
      exact ⟨this.1.mono ext, by omega⟩
  · rw [show upN ce (n0 + cnt) v i = ce i from if_neg (by omega)]; exact hO i hi
theorem fc_params {N0 S b1 b2 : Nat} {G0 : tG} {r : Nat → Nat} {hl0 : Nat → List Nat} {hv0 : Nat → Nat} {H0 : Nat} {RS : Nat → Prop} {X : Nat → Nat} {n0 : Nat} {ce0 : Nat → Nat} {g kk V ng : Nat} (hB : cpB N0 G0 r hl0 hv0 H0 RS b1 b2) (h0 : ∀ x, G0.1 x ≤ 4) (hi1 : ∀ x, G0.1 x = 1 ↔ x = 0) (hr2 : ∀ x, r (r x) = r x) (hb : N0 + b1 < 99990) (hb2 : H0 + b2 < 250000) (hb1 : b1 ≤ 40000) (hS2 : S < 2147483648) (hz0 : hl0 0 = []) (hN00 : 0 < N0) (hr0 : r 0 = 0) (hn : n0 + kk + 1 + ng ≤ 60000) (hX : ∀ i, i < kk + 1 + ng → X i < N0 ∧ RS (r (X i))) (d : Nat) (x1 : Int32) :
    ∀ (j cnt Sh : Nat) (σ : tvS), cnt + j = kk → CMK N0 S G0 r hl0 hv0 H0 RS X n0 cnt Sh ce0 σ → Sh + j * (2 * b1 + 3) < 2147483648 → SGM g kk V ng X σ →
      ∃ σ' u3 Sh', rn L xs (d + 6) 335 39 [.ref 123, .int x1, .int (i32 (g : Int)), .int (i32 (cnt : Int))] [] σ = rn L xs (d + 6) 335 91 [.ref 123, .int x1, .int (i32 (g : Int)), u3] [] σ' ∧ CMK N0 S G0 r hl0 hv0 H0 RS X n0 kk Sh' ce0 σ' ∧ Sh' ≤ Sh + j * (2 * b1 + 3) ∧ SGM g kk V ng X σ' ∧ frM FCF [63, 73, 82, 84] σ σ' := by
  intro j
  induction j with
  | zero =>
    intro cnt Sh σ e h hSh hG
    have e : cnt = kk := by omega
    subst e
    obtain ⟨a1, a2, a3, a4, a5, a6, a7, a8, a9⟩ := id hG
    refine ⟨σ, .int (i32 (cnt : Int)), Sh, ?_, h, by omega, hG, frM.refl⟩
    rw [e335_39 (d + 5), c_in (by omega) (by omega) (by omega), i32_ixn (by omega), a2, c2_ge (by omega) (by omega) (by omega) (by omega), c_t (by omega)]
  | succ j ih =>
    intro cnt Sh σ e h hSh hG
    obtain ⟨a1, a2, a3, a4, a5, a6, a7, a8, a9⟩ := id hG
    have hj : (j + 1) * (2 * b1 + 3) = j * (2 * b1 + 3) + (2 * b1 + 3) := Nat.succ_mul _ _
    obtain ⟨v, s1, s2, Sh1, k1, es, k2, k3, h2, hS1, w⟩ := cm_step (L := L) (xs := xs) hB h0 hi1 hr2 hb hb2 hb1 hS2 hz0 hN00 hr0 h (by omega) (by omega) (hX cnt (by omega)) d
    have e1 : i32 (cnt : Int) + 1 = i32 ((cnt + 1 : Nat) : Int) := by rw [show (1 : Int32) = i32 1 from rfl, i32_add]; rfl
    have e2 : i32 ((n0 + cnt : Nat) : Int) + 1 = i32 ((n0 + (cnt + 1) : Nat) : Int) := by rw [show (1 : Int32) = i32 1 from rfl, i32_add]; congr 1
    rw [e335_39 (d + 5), c_in (by omega) (by omega) (by omega), i32_ixn (by omega), a2, c2_ge (by omega) (by omega) (by omega) (by omega), c_f (by omega), c_in (by omega) (by omega) (by omega), a3, i32_add, show ((V : Int) + (cnt : Int)) = ((V + cnt : Nat) : Int) from by omega, c_in (by omega) (by omega) (by omega), i32_ixn (by omega), a5 cnt (by omega), bI_ok k1, k2, k3, c_in (by omega) (by omega) (by omega), i32_ixn (by omega), e1, e2, ← es]
    obtain ⟨σ', u3, Sh', i1, i2, i3, i4, i5⟩ := ih (cnt + 1) Sh1 s2 (by omega) h2 (by omega) (hG.fr w ⟨rfl, rfl, rfl, rfl, rfl, rfl, rfl⟩)
    exact ⟨σ', u3, Sh', i1, i2, by omega, i4, w.trans i5⟩
theorem fc_regions {N0 S b1 b2 : Nat} {G0 : tG} {r : Nat → Nat} {hl0 : Nat → List Nat} {hv0 : Nat → Nat} {H0 : Nat} {RS : Nat → Prop} {X : Nat → Nat} {n0 : Nat} {ce0 : Nat → Nat} {g kk V ng : Nat} (hB : cpB N0 G0 r hl0 hv0 H0 RS b1 b2) (h0 : ∀ x, G0.1 x ≤ 4) (hi1 : ∀ x, G0.1 x = 1 ↔ x = 0) (hr2 : ∀ x, r (r x) = r x) (hb : N0 + b1 < 99990) (hb2 : H0 + b2 < 250000) (hb1 : b1 ≤ 40000) (hS2 : S < 2147483648) (hz0 : hl0 0 = []) (hN00 : 0 < N0) (hr0 : r 0 = 0) (hn : n0 + kk + 1 + ng ≤ 60000) (hX : ∀ i, i < kk + 1 + ng → X i < N0 ∧ RS (r (X i))) (d : Nat) (x1 : Int32) :
    ∀ (j k Sh : Nat) (σ : tvS), k + j = ng → CMK N0 S G0 r hl0 hv0 H0 RS X n0 (kk + 1 + k) Sh ce0 σ → Sh + j * (2 * b1 + 3) < 2147483648 → SGM g kk V ng X σ →
      ∃ σ' u2 u3 Sh', rn L xs (d + 6) 335 122 [.ref 123, .int x1, .int (i32 (g : Int)), .int (i32 (k : Int))] [] σ = rn L xs (d + 6) 335 182 [.ref 123, .int x1, u2, u3] [] σ' ∧ CMK N0 S G0 r hl0 hv0 H0 RS X n0 (kk + 1 + ng) Sh' ce0 σ' ∧ Sh' ≤ Sh + j * (2 * b1 + 3) ∧ frM FCF [63, 73, 82, 84] σ σ' := by
  intro j
  induction j with
  | zero =>
    intro k Sh σ e h hSh hG
    have e : k = ng := by omega
    subst e
    obtain ⟨a1, a2, a3, a4, a5, a6, a7, a8, a9⟩ := id hG
    refine ⟨σ, .int (i32 (g : Int)), .int (i32 (k : Int)), Sh, ?_, h, by omega, frM.refl⟩
    rw [e335_122 (d + 5), c_in (by omega) (by omega) (by omega), i32_ixn (by omega), a7, c2_ge (by omega) (by omega) (by omega) (by omega), c_t (by omega)]
  | succ j ih =>
    intro k Sh σ e h hSh hG
    obtain ⟨a1, a2, a3, a4, a5, a6, a7, a8, a9⟩ := id hG
    have hj : (j + 1) * (2 * b1 + 3) = j * (2 * b1 + 3) + (2 * b1 + 3) := Nat.succ_mul _ _
    obtain ⟨q, q1, q2, q3⟩ := a9 k (by omega)
    obtain ⟨v, s1, s2, Sh1, k1, es, k2, k3, h2, hS1, w⟩ := cm_step (L := L) (xs := xs) hB h0 hi1 hr2 hb hb2 hb1 hS2 hz0 hN00 hr0 h (by omega) (by omega) (hX (kk + 1 + k) (by omega)) d
    have e1 : i32 (k : Int) + 1 = i32 ((k + 1 : Nat) : Int) := by rw [show (1 : Int32) = i32 1 from rfl, i32_add]; rfl
    have e2 : i32 ((n0 + (kk + 1 + k) : Nat) : Int) + 1 = i32 ((n0 + (kk + 1 + k + 1) : Nat) : Int) := by rw [show (1 : Int32) = i32 1 from rfl, i32_add]; congr 1
    have e64 : (64 : Int32) * i32 (g : Int) = i32 ((64 * g : Nat) : Int) := by rw [show (64 : Int32) = i32 64 from rfl, i32_mul]; congr 1
    rw [e335_122 (d + 5), c_in (by omega) (by omega) (by omega), i32_ixn (by omega), a7, c2_ge (by omega) (by omega) (by omega) (by omega), c_f (by omega), e64, i32_add, show ((64 * g : Nat) : Int) + (k : Int) = ((64 * g + k : Nat) : Int) from by omega, c_in (by omega) (by omega) (by omega), i32_ixn (by omega), q2, i32_add, show ((64 * g : Nat) : Int) + (q : Int) = ((64 * g + q : Nat) : Int) from by omega, c_in (by omega) (by omega) (by omega), i32_ixn (by omega), q3, bI_ok k1, k2, k3, c_in (by omega) (by omega) (by omega), i32_ixn (by omega), e1, e2, ← es]
    obtain ⟨σ', u2, u3, Sh', i1, i2, i3, i5⟩ := ih (k + 1) Sh1 s2 (by omega) h2 (by omega) (hG.fr w ⟨rfl, rfl, rfl, rfl, rfl, rfl, rfl⟩)
    exact ⟨σ', u2, u3, Sh', i1, i2, by omega, w.trans i5⟩
end FIRSTC
