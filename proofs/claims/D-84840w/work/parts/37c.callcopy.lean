/-! TYPING, THE COMPONENT: a call's copy of what it calls -/
section CALLC
variable {L : Nat} {xs : Nat → Int32} {σ σ' : tvS}
/-- where the types of a function's parameters, its result and its regions stand -/
def SGC (g kk V ng rf : Nat) (X : Nat → Nat) (σ : tvS) : Prop := g < 21 ∧ rd σ 44 g = i32 (kk : Int) ∧ rd σ 45 g = i32 (V : Int) ∧ V + kk ≤ 4101 ∧ (∀ k, k < kk → rd σ 67 (V + k) = i32 (X k : Int)) ∧ rd σ 68 g = i32 (X kk : Int) ∧ rd σ 72 g = i32 (ng : Int) ∧ rd σ 71 g = i32 (rf : Int) ∧ rf + ng ≤ ln σ 73 ∧ ln σ 73 ≤ 2048 ∧ ∀ k, k < ng → rd σ 73 (rf + k) = i32 (X (kk + 1 + k) : Int)
theorem SGC.fr {g kk V ng rf : Nat} {X : Nat → Nat} {S T F : List Nat} (h : SGC g kk V ng rf X σ) (w : frT S T F σ σ') (hS : inL S 44 = false ∧ inL S 45 = false ∧ inL S 67 = false ∧ inL S 68 = false ∧ inL S 71 = false ∧ inL S 72 = false ∧ inL S 73 = false) (hT : inL T 73 = false) : SGC g kk V ng rf X σ' := by
  obtain ⟨a1, a2, a3, a4, a5, a6, a7, a8, a9, a10, a11⟩ := h
  obtain ⟨b1, b2, b3, b4, b5, b6, b7⟩ := hS
  exact ⟨a1, by rw [w.rd (j := 44) b1]; exact a2, by rw [w.rd (j := 45) b2]; exact a3, a4, fun k hk => by rw [w.rd (j := 67) b3]; exact a5 k hk, by rw [w.rd (j := 68) b4]; exact a6, by rw [w.rd (j := 72) b6]; exact a7, by rw [w.rd (j := 71) b5]; exact a8, by rw [(w.1.2.2 73 hT).1]; exact a9, by rw [(w.1.2.2 73 hT).1]; exact a10, fun k hk => by rw [w.rd (j := 73) b7]; exact a11 k hk⟩
/-- only one field of the typing is touched -/
def FD65 (σ σ' : tvS) : Prop := ∀ i, i ≠ 9 → rd σ' 65 i = rd σ 65 i
theorem FD65.trans {a b e : tvS} (h : FD65 a b) (g : FD65 b e) : FD65 a e := fun i hi => (g i hi).trans (h i hi)
/-- in the midst of it: so many are copied and kept -/
def CKS (K1 K2 N0 S : Nat) (G0 : tG) (r : Nat → Nat) (hl0 : Nat → List Nat) (hv0 : Nat → Nat) (H0 : Nat) (RS : Nat → Prop) (X : Nat → Nat) (n0 cnt : Nat) (ce0 : Nat → Nat) (σ : tvS) : Prop :=
  ∃ (N : Nat) (G : tG) (im : Nat → Nat) (SL W : List Nat) (ce : Nat → Nat), cpI N0 G0 r hl0 hv0 H0 RS N G hl0 hv0 H0 im SL [] [] W ∧ cpS K1 K2 N0 S r N G hl0 hv0 H0 im SL [] W σ ∧ KP (n0 + cnt) ce σ ∧ (∀ i, i < cnt → cov G0 r SL im (X i) (ce (n0 + i)) ∧ ce (n0 + i) < N) ∧ (∀ i, i < n0 → ce i = ce0 i)
theorem ck_step {K1 K2 N0 S b1 b2 : Nat} {G0 : tG} {r : Nat → Nat} {hl0 : Nat → List Nat} {hv0 : Nat → Nat} {H0 : Nat} {RS : Nat → Prop} {X : Nat → Nat} {n0 cnt : Nat} {ce0 : Nat → Nat} (hB : cpB N0 G0 r hl0 hv0 H0 RS b1 b2) (h0 : ∀ x, G0.1 x ≤ 4) (hb : N0 + b1 < 122880) (hS : 1 ≤ S) (hS2 : S < 2147483648) (h : CKS K1 K2 N0 S G0 r hl0 hv0 H0 RS X n0 cnt ce0 σ) (hn : n0 + cnt < 32768) (hX : X cnt < N0 ∧ RS (r (X cnt))) (d : Nat) :
    ∃ (v : Nat) (s1 σ' : tvS), rn L xs (d + 3) 83 0 [.ref 50, .int (i32 (X cnt : Int)), jv, jv] [] σ = some (.inl (some (.int (i32 (v : Int)))), s1) ∧ rn L xs (d + 3) 145 0 [.ref 65, .int (i32 (v : Int))] [] s1 = some (.inl none, σ') ∧ CKS K1 K2 N0 S G0 r hl0 hv0 H0 RS X n0 (cnt + 1) ce0 σ' ∧ frT FCK FCK [8, 14] σ σ' ∧ FD65 σ σ' := by
  obtain ⟨N, G, im, SL, W, ce, hI, hM, hK, hE, hO⟩ := h
  obtain ⟨s1, N', G', im', SL', W', v, k1, I1, M1, cv, vl, nl, ext, gO, ms, hWW, fr1⟩ := copy_c (L := L) (xs := xs) hB h0 hb hS hS2 hI hM hX.1 hX.2 d jv jv
  have K1' := hK.fr fr1.1 ⟨rfl, rfl⟩ rfl
  obtain ⟨σ', k2, K2', R2, w2⟩ := keep_c (L := L) (xs := xs) M1.2.2.2.2.1 K1' hn v (d + 2)
  refine ⟨v, s1, σ', k1, k2, ⟨N', G', im', SL', W', upN ce (n0 + cnt) v, I1, M1.K w2 R2, K2', fun i hi => ?_, fun i hi => ?_⟩, (fr1.1.sub rfl rfl rfl).trans w2.T, fun i hi => (w2.2 i hi).trans (fr1.1.rd (j := 65) rfl i)⟩
  · unfold upN
    by_cases q : i = cnt
    · rw [if_pos (by omega), q]; exact ⟨cv, vl⟩
    · rw [if_neg (by omega)]
      have := hE i (by omega)
      exact ⟨this.1.mono ext, by omega⟩
  · rw [show upN ce (n0 + cnt) v i = ce i from if_neg (by omega)]; exact hO i hi
theorem cc_params {K1 K2 N0 S b1 b2 : Nat} {G0 : tG} {r : Nat → Nat} {hl0 : Nat → List Nat} {hv0 : Nat → Nat} {H0 : Nat} {RS : Nat → Prop} {X : Nat → Nat} {n0 : Nat} {ce0 : Nat → Nat} {g kk V ng rf : Nat} (hB : cpB N0 G0 r hl0 hv0 H0 RS b1 b2) (h0 : ∀ x, G0.1 x ≤ 4) (hb : N0 + b1 < 122880) (hS : 1 ≤ S) (hS2 : S < 2147483648) (hn : n0 + kk + 1 + ng ≤ 32768) (hX : ∀ i, i < kk + 1 + ng → X i < N0 ∧ RS (r (X i))) (d : Nat) :
    ∀ (j cnt : Nat) (σ : tvS) (v1 : Value), cnt + j = kk → CKS K1 K2 N0 S G0 r hl0 hv0 H0 RS X n0 cnt ce0 σ → SGC g kk V ng rf X σ →
      ∃ σ' u1 u3, rn L xs (d + 4) 143 29 [.ref 65, v1, .int (i32 (g : Int)), .int (i32 (cnt : Int))] [] σ = rn L xs (d + 4) 143 65 [.ref 65, u1, .int (i32 (g : Int)), u3] [] σ' ∧ CKS K1 K2 N0 S G0 r hl0 hv0 H0 RS X n0 kk ce0 σ' ∧ SGC g kk V ng rf X σ' ∧ frT FCK FCK [8, 14] σ σ' ∧ FD65 σ σ' := by
  intro j
  induction j with
  | zero =>
    intro cnt σ v1 e h hG
    have e : cnt = kk := by omega
    subst e
    obtain ⟨a1, a2, a3, a4, a5, a6, a7, a8, a9, a10, a11⟩ := id hG
    refine ⟨σ, v1, .int (i32 (cnt : Int)), ?_, h, hG, frT.refl, fun _ _ => rfl⟩
    rw [e143_29 (d + 3), c_in (by omega) (by omega) (by omega), i32_ixn (by omega), a2, c2_ge (by omega) (by omega) (by omega) (by omega), c_t (by omega)]
  | succ j ih =>
    intro cnt σ v1 e h hG
    obtain ⟨a1, a2, a3, a4, a5, a6, a7, a8, a9, a10, a11⟩ := id hG
    obtain ⟨v, s1, s2, k1, k2, h2, w, w'⟩ := ck_step (L := L) (xs := xs) hB h0 hb hS hS2 h (by omega) (hX cnt (by omega)) d
    have p144 : rn L xs (d + 3) 144 0 [.ref 65, .int (i32 (g : Int)), .int (i32 (cnt : Int))] [] σ = some (.inl (some (.int (i32 (X cnt : Int)))), σ) := by
      rw [e144_0, c_in (by omega) (by omega) (by omega), i32_ixn (by omega), a3, i32_add, show ((V : Int) + (cnt : Int)) = ((V + cnt : Nat) : Int) from by omega, c_in (by omega) (by omega) (by omega), i32_ixn (by omega), a5 cnt (by omega)]
    have e1 : i32 (cnt : Int) + 1 = i32 ((cnt + 1 : Nat) : Int) := by rw [show (1 : Int32) = i32 1 from rfl, i32_add]; rfl
    rw [e143_29 (d + 3), c_in (by omega) (by omega) (by omega), i32_ixn (by omega), a2, c2_ge (by omega) (by omega) (by omega) (by omega), c_f (by omega), bI_ok p144, bI_ok k1, bV_ok k2, e1]
    obtain ⟨σ', u1, u3, i1, i2, i3, i4, i5⟩ := ih (cnt + 1) s2 (dj (dj (dj v1))) (by omega) h2 (hG.fr w ⟨rfl, rfl, rfl, rfl, rfl, rfl, rfl⟩ rfl)
    exact ⟨σ', u1, u3, i1, i2, i3, w.trans i4, w'.trans i5⟩
theorem cc_regions {K1 K2 N0 S b1 b2 : Nat} {G0 : tG} {r : Nat → Nat} {hl0 : Nat → List Nat} {hv0 : Nat → Nat} {H0 : Nat} {RS : Nat → Prop} {X : Nat → Nat} {n0 : Nat} {ce0 : Nat → Nat} {g kk V ng rf : Nat} (hB : cpB N0 G0 r hl0 hv0 H0 RS b1 b2) (h0 : ∀ x, G0.1 x ≤ 4) (hb : N0 + b1 < 122880) (hS : 1 ≤ S) (hS2 : S < 2147483648) (hn : n0 + kk + 1 + ng ≤ 32768) (hX : ∀ i, i < kk + 1 + ng → X i < N0 ∧ RS (r (X i))) (d : Nat) :
    ∀ (j k : Nat) (σ : tvS) (v1 : Value), k + j = ng → CKS K1 K2 N0 S G0 r hl0 hv0 H0 RS X n0 (kk + 1 + k) ce0 σ → SGC g kk V ng rf X σ →
      ∃ σ' u1 u2 u3, rn L xs (d + 4) 143 84 [.ref 65, v1, .int (i32 (g : Int)), .int (i32 (k : Int))] [] σ = rn L xs (d + 4) 143 117 [.ref 65, u1, u2, u3] [] σ' ∧ CKS K1 K2 N0 S G0 r hl0 hv0 H0 RS X n0 (kk + 1 + ng) ce0 σ' ∧ frT FCK FCK [8, 14] σ σ' ∧ FD65 σ σ' := by
  intro j
  induction j with
  | zero =>
    intro k σ v1 e h hG
    have e : k = ng := by omega
    subst e
    obtain ⟨a1, a2, a3, a4, a5, a6, a7, a8, a9, a10, a11⟩ := id hG
    refine ⟨σ, v1, .int (i32 (g : Int)), .int (i32 (k : Int)), ?_, h, frT.refl, fun _ _ => rfl⟩
    rw [e143_84 (d + 3), c_in (by omega) (by omega) (by omega), i32_ixn (by omega), a7, c2_ge (by omega) (by omega) (by omega) (by omega), c_t (by omega)]
  | succ j ih =>
    intro k σ v1 e h hG
    obtain ⟨a1, a2, a3, a4, a5, a6, a7, a8, a9, a10, a11⟩ := id hG
    obtain ⟨v, s1, s2, k1, k2, h2, w, w'⟩ := ck_step (L := L) (xs := xs) hB h0 hb hS hS2 h (by omega) (hX (kk + 1 + k) (by omega)) d
    have p146 : rn L xs (d + 3) 146 0 [.ref 65, .int (i32 (g : Int)), .int (i32 (k : Int))] [] σ = some (.inl (some (.int (i32 (X (kk + 1 + k) : Int)))), σ) := by
      rw [e146_0, c_in (by omega) (by omega) (by omega), i32_ixn (by omega), a8, i32_add, show ((rf : Int) + (k : Int)) = ((rf + k : Nat) : Int) from by omega, c_in (by omega) (by omega) (by omega), i32_ixn (by omega), a11 k (by omega)]
    have e1 : i32 (k : Int) + 1 = i32 ((k + 1 : Nat) : Int) := by rw [show (1 : Int32) = i32 1 from rfl, i32_add]; rfl
    rw [e143_84 (d + 3), c_in (by omega) (by omega) (by omega), i32_ixn (by omega), a7, c2_ge (by omega) (by omega) (by omega) (by omega), c_f (by omega), bI_ok p146, bI_ok k1, bV_ok k2, e1]
    obtain ⟨σ', u1, u2, u3, i1, i2, i3, i4⟩ := ih (k + 1) s2 (dj (dj (dj v1))) (by omega) h2 (hG.fr w ⟨rfl, rfl, rfl, rfl, rfl, rfl, rfl⟩ rfl)
    exact ⟨σ', u1, u2, u3, i1, i2, w.trans i3, w'.trans i4⟩
/-- a call's copy, as a whole -/
theorem callcopy_c {K1 K2 N0 S b1 b2 : Nat} {G0 : tG} {r : Nat → Nat} {hl0 : Nat → List Nat} {hv0 : Nat → Nat} {H0 : Nat} {RS : Nat → Prop} {X : Nat → Nat} {n0 : Nat} {ce0 : Nat → Nat} {g kk V ng rf p : Nat} (hB : cpB N0 G0 r hl0 hv0 H0 RS b1 b2) (h0 : ∀ x, G0.1 x ≤ 4) (hi1 : ∀ x, G0.1 x = 1 ↔ x = 0) (hb : N0 + b1 < 122880) (hb2 : H0 + b2 < 212992) (hS2 : S + 2 < 2147483648) (hn : n0 + kk + 1 + ng ≤ 32768) (hX : ∀ i, i < kk + 1 + ng → X i < N0 ∧ RS (r (X i)))
    (hT : TC N0 G0 r σ) (hH : HO N0 r hl0 hv0 H0 σ) (hSt : STP N0 S σ) (hR : ROOM K1 K2 σ) (hz : ∀ t, N0 ≤ t → hl0 t = []) (hK : KP n0 ce0 σ) (hG : SGC g kk V ng rf X σ) (hp : p < 4101) (hv : rd σ 27 p = i32 (g : Int)) (d : Nat) (v2 v3 : Value) :
    ∃ (σ' : tvS) (N : Nat) (G : tG) (hl : Nat → List Nat) (hv : Nat → Nat) (H : Nat) (im : Nat → Nat) (SL : List Nat) (PL : List (Nat × Nat)) (ce : Nat → Nat), rn L xs (d + 5) 143 0 [.ref 65, .int (i32 (p : Int)), v2, v3] [] σ = some (.inl none, σ') ∧ cpI N0 G0 r hl0 hv0 H0 RS N G hl hv H im SL PL [] [] ∧ TC N G r σ' ∧ HO N r hl hv H σ' ∧ STP N (S + 2) σ' ∧ ROOM K1 K2 σ' ∧ KP (n0 + (kk + 1 + ng)) ce σ' ∧ (∀ i, i < kk + 1 + ng → cov G0 r SL im (X i) (ce (n0 + i)) ∧ ce (n0 + i) < N) ∧ (∀ i, i < n0 → ce i = ce0 i) ∧ rd σ' 69 p = i32 (n0 : Int) ∧ (∀ i, i ≠ p → rd σ' 69 i = rd σ 69 i) ∧ frT (59 :: 60 :: 69 :: FCK) (59 :: 60 :: FCK) [8, 11, 12, 14] σ σ' ∧ FD65 σ σ' := by
  have e2 : rd σ 50 12 + 2 = i32 ((S + 2 : Nat) : Int) := by rw [hSt.1, show (2 : Int32) = i32 2 from rfl, i32_add]; rfl
  have e50 : rd (wr σ 69 p (i32 (n0 : Int))) 50 12 = rd σ 50 12 := wr_nek (by decide)
  have p82 : rn L xs (d + 4) 82 0 [.ref 50] [] (wr σ 69 p (i32 (n0 : Int))) = some (.inl none, wr (wr (wr σ 69 p (i32 (n0 : Int))) 50 12 (i32 ((S + 2 : Nat) : Int))) 50 14 0) := by rw [e82_0, e50, e2]
  have w1 : frT [69] [] [12, 14] σ (wr (wr (wr σ 69 p (i32 (n0 : Int))) 50 12 (i32 ((S + 2 : Nat) : Int))) 50 14 0) := (frT_wr rfl (by decide)).trans ((frT_w50 rfl).trans (frT_w50 rfl))
  have T1 := hT.T w1 rfl ⟨rfl, rfl, rfl, rfl⟩ (fun _ _ _ => rfl)
  have n57 : ∀ t, t < N0 → rd (wr (wr (wr σ 69 p (i32 (n0 : Int))) 50 12 (i32 ((S + 2 : Nat) : Int))) 50 14 0) 57 t ≠ i32 ((S + 2 : Nat) : Int) := fun t ht q => by
    rw [w1.rd (j := 57) rfl] at q
    obtain ⟨s, a, b⟩ := hSt.2 t ht
    rw [b] at q
    have := (i32_inj (by omega) (by omega) (by omega) (by omega)).mp q
    omega
  have I0 : cpI N0 G0 r hl0 hv0 H0 RS N0 G0 hl0 hv0 H0 (fun _ => 0) [] [] [] [] := ⟨rfl, List.nodup_nil, fun t ht => (by cases ht), fun t t' ht => (by cases ht), fun x h1 h2 => by omega, fun t ht => (by cases ht), List.nodup_nil, fun t ht => (by cases ht), fun t ht => (by cases ht), fun x _ => ⟨rfl, rfl, rfl⟩, fun x _ => rfl, fun i _ => rfl, hz, rfl, List.nodup_nil, fun p hp => (by cases hp)⟩
  have M0 : cpS K1 K2 N0 (S + 2) r N0 G0 hl0 hv0 H0 (fun _ => 0) [] [] [] (wr (wr (wr σ 69 p (i32 (n0 : Int))) 50 12 (i32 ((S + 2 : Nat) : Int))) 50 14 0) := ⟨T1.q _, hH.T w1 rfl ⟨rfl, rfl, rfl, rfl⟩ ⟨rfl, rfl⟩, ⟨by rw [wr_nei (by decide), wr_self], fun x hx => by
      obtain ⟨s, a, b⟩ := hSt.2 x hx
      exact ⟨s, by omega, by rw [w1.rd (j := 57) rfl]; exact b⟩⟩, ⟨wr_self _ _ _ _, Nat.zero_le _, trivial⟩, hR.wr.wr.wr, fun t => ⟨fun q => (by cases q), fun q => absurd q.2 (n57 t q.1)⟩, fun t ht => (by cases ht)⟩
  have C0 : CKS K1 K2 N0 (S + 2) G0 r hl0 hv0 H0 RS X n0 0 ce0 (wr (wr (wr σ 69 p (i32 (n0 : Int))) 50 12 (i32 ((S + 2 : Nat) : Int))) 50 14 0) := ⟨N0, G0, fun _ => 0, [], [], ce0, I0, M0, hK.fr w1 ⟨rfl, rfl⟩ rfl, fun i hi => absurd hi (Nat.not_lt_zero _), fun _ _ => rfl⟩
  have G1 := hG.fr w1 ⟨rfl, rfl, rfl, rfl, rfl, rfl, rfl⟩ rfl
  rw [e143_0 (d + 4), c_in (by omega) (by omega) (by omega), c_in (by omega) (by omega) (by omega), i32_ixn (by omega), hK.1, bV_ok p82, hv]
  obtain ⟨s2, u1, u3, i1, C2, G2, w2, w2'⟩ := cc_params (L := L) (xs := xs) hB h0 hb (by omega) hS2 hn hX (d + 1) kk 0 _ (.int (i32 (p : Int))) (by omega) C0 G1
  have i1' : rn L xs (d + 4 + 1) 143 29 [.ref 65, .int (i32 (p : Int)), .int (i32 (g : Int)), .int 0] [] (wr (wr (wr σ 69 p (i32 (n0 : Int))) 50 12 (i32 ((S + 2 : Nat) : Int))) 50 14 0) = rn L xs (d + 1 + 4) 143 65 [.ref 65, u1, .int (i32 (g : Int)), u3] [] s2 := i1
  obtain ⟨g1, g2, g3, g4, g5, g6, g7⟩ := id G2
  obtain ⟨v, s3, s4, k1, k2, C4, w4, w4'⟩ := ck_step (L := L) (xs := xs) hB h0 hb (by omega) hS2 C2 (by omega) (hX kk (by omega)) (d + 1)
  rw [i1', e143_65 (d + 4), c_in (by omega) (by omega) (by omega), i32_ixn (by omega), g6, bI_ok k1, bV_ok k2]
  have G4 := G2.fr w4 ⟨rfl, rfl, rfl, rfl, rfl, rfl, rfl⟩ rfl
  obtain ⟨s5, y1, y2, y3, j1, C5, w5, w5'⟩ := cc_regions (L := L) (xs := xs) hB h0 hb (by omega) hS2 hn hX (d + 1) ng 0 s4 (dj (dj u1)) (by omega) C4 G4
  have j1' : rn L xs (d + 4 + 1) 143 84 [.ref 65, dj (dj u1), .int (i32 (g : Int)), .int 0] [] s4 = rn L xs (d + 1 + 4) 143 117 [.ref 65, y1, y2, y3] [] s5 := j1
  rw [j1', e143_117 (d + 4)]
  obtain ⟨N1, G1', im1, SL1, W1, ce1, I5, M5, K5, E5, O5⟩ := C5
  obtain ⟨s6, N2, G2', hl2, hv2, H2, im2, SL2, PL2, q1, I6, M6, ext, w6⟩ := fill_c (L := L) (xs := xs) hB h0 hb hb2 (by omega) hS2 hi1 d _ I5 M5 (Nat.le_refl _) jv jv jv jv
  rw [bV_ok q1]
  have w15 : frT (59 :: 60 :: 69 :: FCK) (59 :: 60 :: FCK) [8, 11, 12, 14] σ s5 := (w1.sub rfl rfl rfl).trans ((w2.sub rfl rfl rfl).trans ((w4.sub rfl rfl rfl).trans (w5.sub rfl rfl rfl)))
  have w16 : frT (59 :: 60 :: 69 :: FCK) (59 :: 60 :: FCK) [8, 11, 12, 14] σ s6 := w15.trans (w6.sub rfl rfl rfl)
  have r69 : ∀ i, rd s6 69 i = rd (wr (wr (wr σ 69 p (i32 (n0 : Int))) 50 12 (i32 ((S + 2 : Nat) : Int))) 50 14 0) 69 i := fun i => by
    rw [w6.rd (j := 69) rfl, w5.rd (j := 69) rfl, w4.rd (j := 69) rfl, w2.rd (j := 69) rfl]
  have hN12 : N1 ≤ N2 := by
    have a1 := I5.1
    have a2 := I6.1
    have := nodup_len SL1 SL2 I5.2.1 (fun s hs => (ext s hs).1)
    omega
  refine ⟨s6, N2, G2', hl2, hv2, H2, im2, SL2, PL2, ce1, rfl, I6, M6.1.all (fun x hx hk t ht => (by cases ht)), M6.2.1, M6.2.2.1, M6.2.2.2.2.1, K5.fr w6 ⟨rfl, rfl⟩ rfl, fun i hi => ⟨(E5 i hi).1.mono ext, by have := (E5 i hi).2; omega⟩, O5, ?_, fun i hi => ?_, w16, fun i hi => by rw [w6.rd (j := 65) rfl, w5' i hi, w4' i hi, w2' i hi, w1.rd (j := 65) rfl]⟩
  · rw [r69, wr_nek (by decide), wr_nek (by decide), wr_self]
  · rw [r69, wr_nek (by decide), wr_nek (by decide), wr_nei hi]
end CALLC
