/-! TYPING, THE MODEL: a call's copy, as a whole -/
section FIRSTW
variable {L : Nat} {xs : Nat → Int32} {σ σ' : tvS}
theorem first_m {N0 S Sh b1 b2 : Nat} {G0 : tG} {r : Nat → Nat} {hl0 : Nat → List Nat} {hv0 : Nat → Nat} {H0 : Nat} {RS : Nat → Prop} {X : Nat → Nat} {n0 : Nat} {ce0 : Nat → Nat} {g kk V ng p : Nat} (hB : cpB N0 G0 r hl0 hv0 H0 RS b1 b2) (hb : N0 + b1 < 99990) (hb2 : H0 + b2 < 250000) (hb1 : b1 ≤ 1000) (hS2 : S + 1 < 2147483648) (hSh : Sh + 70 * (2 * b1 + 3) < 2147483648) (hkk : kk ≤ 5) (hn : n0 + kk + 1 + ng ≤ 60000) (hX : ∀ i, i < kk + 1 + ng → X i < N0 ∧ RS (r (X i)))
    (hT : TM N0 G0 r σ) (hH : HM N0 r hl0 hv0 H0 σ) (hK0 : HK N0 G0 r hl0) (hMT : MT N0 S σ) (hMH : MH N0 Sh σ) (hP : gP G0 r) (hz : ∀ t, N0 ≤ t → hl0 t = []) (hK : KM n0 ce0 σ) (hG : SGM g kk V ng X σ) (hp : p < 6000) (hw : rd σ 157 p = i32 (g : Int)) (hpc : rd σ 181 p = i32 (-1)) (d : Nat) (v2 v3 : Value) :
    ∃ (σ' : tvS) (N : Nat) (G : tG) (hl : Nat → List Nat) (hv : Nat → Nat) (H Sh' : Nat) (im : Nat → Nat) (SL : List Nat) (PL : List (Nat × Nat)) (ce : Nat → Nat), rn L xs (d + 6) 335 0 [.ref 123, .int (i32 (p : Int)), v2, v3] [] σ = some (.inl (some (.int (i32 (n0 : Int)))), σ') ∧ cpI N0 G0 r hl0 hv0 H0 RS N G hl hv H im SL PL [] [] ∧ TM N G r σ' ∧ HM N r hl hv H σ' ∧ MT N (S + 1) σ' ∧ MH N Sh' σ' ∧ Sh' ≤ Sh + 70 * (2 * b1 + 3) ∧ KM (n0 + (kk + 1 + ng)) ce σ' ∧ (∀ i, i < kk + 1 + ng → cov G0 r SL im (X i) (ce (n0 + i)) ∧ ce (n0 + i) < N) ∧ (∀ i, i < n0 → ce i = ce0 i) ∧ rd σ' 181 p = i32 (n0 : Int) ∧ (∀ i, i ≠ p → rd σ' 181 i = rd σ 181 i) ∧ frM (181 :: FCF) [63, 72, 73, 82, 84] σ σ' := by
  have h0 : ∀ x, G0.1 x ≤ 4 := fun x => by
    by_cases q : x < N0
    · exact (hT.2.2.2.2.2.1 x q).2.1
    · have := (hT.2.2.2.2.1 x (by omega)).2; omega
  have hi1 := hT.2.2.2.2.2.2
  have hN00 := hT.2.1
  have k0 : G0.1 0 = 1 := (hi1 0).mpr rfl
  have hr2 := hP.1
  have hr0 : r 0 = 0 := (hi1 _).mp (by rw [hP.2.1 0 (by omega)]; exact k0)
  have hz0 : hl0 0 = [] := by
    apply Classical.byContradiction
    intro q
    have := hK0 0 hN00 hr0 q
    omega
  have e1 : rd (wr σ 181 p (i32 (n0 : Int))) 123 72 = rd σ 123 72 := wr_nek (by decide)
  have e2 : rd σ 123 72 + 1 = i32 ((S + 1 : Nat) : Int) := by rw [hMT.1, show (1 : Int32) = i32 1 from rfl, i32_add]; rfl
  have w1 : frM [181] [72] σ (wr (wr σ 181 p (i32 (n0 : Int))) 123 72 (i32 ((S + 1 : Nat) : Int))) := (frM_wr rfl (by decide)).trans (frM_w rfl)
  have T1 := hT.fr w1 rfl ⟨rfl, rfl, rfl, rfl⟩
  have nm : ∀ t, t < N0 → rd (wr (wr σ 181 p (i32 (n0 : Int))) 123 72 (i32 ((S + 1 : Nat) : Int))) 171 t ≠ i32 ((S + 1 : Nat) : Int) := fun t ht q => by
    rw [w1.rd (j := 171) rfl] at q
    obtain ⟨⟨s, a, b⟩, _⟩ := hMT.2 t ht
    rw [b] at q
    have := (i32_inj (by omega) (by omega) (by omega) (by omega)).mp q
    omega
  have I0 : cpI N0 G0 r hl0 hv0 H0 RS N0 G0 hl0 hv0 H0 (fun _ => 0) [] [] [] [] := ⟨rfl, List.nodup_nil, fun t ht => (by cases ht), fun t t' ht => (by cases ht), fun x h1 h2 => by omega, fun t ht => (by cases ht), List.nodup_nil, fun t ht => (by cases ht), fun t ht => (by cases ht), fun x _ => ⟨rfl, rfl, rfl⟩, fun x _ => rfl, fun i _ => rfl, hz, rfl, List.nodup_nil, fun p hp => (by cases hp)⟩
  have M0 : cmS N0 (S + 1) r N0 G0 hl0 hv0 H0 Sh (fun _ => 0) [] [] 0 [] False (wr (wr σ 181 p (i32 (n0 : Int))) 123 72 (i32 ((S + 1 : Nat) : Int))) := ⟨T1.q _, hH.fr w1 rfl ⟨rfl, rfl, rfl⟩, ⟨wr_self _ _ _ _, fun y hy => by
      obtain ⟨⟨s, a, b⟩, ⟨s', a', b'⟩⟩ := hMT.2 y hy
      rw [w1.rd (j := 171) rfl, w1.rd (j := 172) rfl]
      exact ⟨⟨s, by omega, b⟩, ⟨s', by omega, b'⟩⟩⟩, hMH.fr w1 rfl rfl, trivial, fun t ht => ⟨fun q => absurd q (nm t ht), fun q => q.elim (fun q => (by cases q)) (fun q => q.2.elim)⟩, fun t ht => (by cases ht), fun q => q.elim, fun q => (by cases q)⟩
  have C0 : CMK N0 (S + 1) G0 r hl0 hv0 H0 RS X n0 0 Sh ce0 (wr (wr σ 181 p (i32 (n0 : Int))) 123 72 (i32 ((S + 1 : Nat) : Int))) := ⟨N0, G0, hl0, hv0, H0, fun _ => 0, [], [], False, 0, ce0, I0, M0, hK.fr w1 rfl rfl, fun i hi => absurd hi (Nat.not_lt_zero _), fun _ _ => rfl⟩
  have G1 := hG.fr w1 ⟨rfl, rfl, rfl, rfl, rfl, rfl, rfl⟩
  have hng := hG.2.2.2.2.2.2.2.1
  have m1 : kk * (2 * b1 + 3) ≤ 5 * (2 * b1 + 3) := Nat.mul_le_mul_right _ hkk
  have m2 : ng * (2 * b1 + 3) ≤ 63 * (2 * b1 + 3) := Nat.mul_le_mul_right _ (by omega)
  rw [e335_0 (d + 5), c_in (by omega) (by omega) (by omega), i32_ixn (by omega), hpc, i32_raw, c2_ne (by omega) (by omega) (by omega) (by omega), c_f (by omega), c_in (by omega) (by omega) (by omega), c_in (by omega) (by omega) (by omega), hK.1, e2, hw]
  obtain ⟨s2, u3, Sh2, i1, C2, hS2', G2, w2⟩ := fc_params (L := L) (xs := xs) hB h0 hi1 hr2 hb hb2 (by omega) hS2 hz0 hN00 hr0 hn hX d (i32 (p : Int)) kk 0 Sh _ (by omega) C0 (by omega) G1
  have i1' : rn L xs (d + 5 + 1) 335 39 [.ref 123, .int (i32 (p : Int)), .int (i32 (g : Int)), .int 0] [] (wr (wr σ 181 p (i32 (n0 : Int))) 123 72 (i32 ((S + 1 : Nat) : Int))) = rn L xs (d + 5 + 1) 335 91 [.ref 123, .int (i32 (p : Int)), .int (i32 (g : Int)), u3] [] s2 := i1
  obtain ⟨g1, g2, g3, g4, g5, g6, g7⟩ := id G2
  obtain ⟨v, s3, s4, Sh4, k1, es, k2, k3, C4, hS4, w4⟩ := cm_step (L := L) (xs := xs) hB h0 hi1 hr2 hb hb2 (by omega) hS2 hz0 hN00 hr0 C2 (by omega) (by omega) (hX kk (by omega)) d
  have e3 : i32 ((n0 + kk : Nat) : Int) + 1 = i32 ((n0 + (kk + 1) : Nat) : Int) := by rw [show (1 : Int32) = i32 1 from rfl, i32_add]; congr 1
  rw [i1', e335_91 (d + 5), c_in (by omega) (by omega) (by omega), i32_ixn (by omega), g6, bI_ok k1, k2, k3, c_in (by omega) (by omega) (by omega), i32_ixn (by omega), e3, ← es]
  have G4 := G2.fr w4 ⟨rfl, rfl, rfl, rfl, rfl, rfl, rfl⟩
  obtain ⟨s5, y2, y3, Sh5, j1, C5, hS5, w5⟩ := fc_regions (L := L) (xs := xs) hB h0 hi1 hr2 hb hb2 (by omega) hS2 hz0 hN00 hr0 hn hX d (i32 (p : Int)) ng 0 Sh4 s4 (by omega) C4 (by omega) G4
  have j1' : rn L xs (d + 5 + 1) 335 122 [.ref 123, .int (i32 (p : Int)), .int (i32 (g : Int)), .int 0] [] s4 = rn L xs (d + 5 + 1) 335 182 [.ref 123, .int (i32 (p : Int)), y2, y3] [] s5 := j1
  have r181 : ∀ i, rd s5 181 i = rd (wr (wr σ 181 p (i32 (n0 : Int))) 123 72 (i32 ((S + 1 : Nat) : Int))) 181 i := fun i => by
    rw [w5.rd (j := 181) rfl, w4.rd (j := 181) rfl, w2.rd (j := 181) rfl]
  have rp : rd s5 181 p = i32 (n0 : Int) := by rw [r181, wr_nek (by decide), wr_self]
  rw [j1', e335_182, c_in (by omega) (by omega) (by omega), i32_ixn (by omega), rp]
  obtain ⟨N1, G1', hl1, hv1, H1, im1, SL1, PL1, z1, kq, ce1, I5, M5, K5, E5, O5⟩ := C5
  refine ⟨s5, N1, G1', hl1, hv1, H1, Sh5, im1, SL1, PL1, ce1, rfl, I5, M5.1.all (fun x hx hk t ht => (by cases ht)), M5.2.1, M5.2.2.1, M5.2.2.2.1, by omega, K5, E5, O5, rp, fun i hi => ?_, (w1.sub rfl rfl).trans ((w2.sub rfl rfl).trans ((w4.sub rfl rfl).trans (w5.sub rfl rfl)))⟩
  rw [r181, wr_nek (by decide), wr_nei hi]
end FIRSTW
