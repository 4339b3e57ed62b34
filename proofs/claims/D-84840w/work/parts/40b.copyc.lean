/-! TYPING, BOTH: the component copies what a call calls, ahead of the model -/
section COPYC
variable {L : Nat} {xs : Nat → Int32} {σ σ' τ τ' : tvS}
variable {K1 K2 Bc Bm f : Nat} {Rc Rm : Nat → Nat → Prop} {pd : List (Nat × List Nat × (Nat → Nat))} {n u a rc : Nat} {T : tyJ}
theorem TJ.copyC {p g kk V ng rf n0 : Nat} {Xc ce0 : Nat → Nat} (hT : TJ K1 K2 Bc Bm f Rc Rm pd n u a rc T σ τ) (hg : g < f) (hX : ∀ i, i < kk + 1 + ng → Xc i < T.1.1 ∧ Rc g (T.1.2.2.1 (Xc i))) (hK : KP n0 ce0 σ) (hn : n0 + kk + 1 + ng ≤ 32768) (hG : SGC g kk V ng rf Xc σ) (hp : p < 4101) (hv : rd σ 27 p = i32 (g : Int)) (hN : T.1.1 + 64 + n + u ≤ 122000) (hH : T.1.2.2.2.2.1 + 100 < 212992) (hS : T.1.2.2.2.2.2 + 2 + 100000 * a ≤ 1000000000) (d : Nat) (v2 v3 : Value) :
    ∃ (σ' : tvS) (T' : tyJ) (SL : List Nat) (im ce : Nat → Nat), rn L xs (d + 5) 143 0 [.ref 65, .int (i32 (p : Int)), v2, v3] [] σ = some (.inl none, σ') ∧ TJ K1 K2 Bc Bm f Rc Rm ((p, SL, im) :: pd) n u a rc T' σ' τ ∧ exT Bc Bm T T' ∧ T'.2 = T.2 ∧ T'.1.1 ≤ T.1.1 + 64 ∧ T'.1.2.2.1 = T.1.2.2.1 ∧ T'.1.2.2.2.2.1 ≤ T.1.2.2.2.2.1 + 100 ∧ T'.1.2.2.2.2.2 = T.1.2.2.2.2.2 + 2 ∧ KP (n0 + (kk + 1 + ng)) ce σ' ∧ (∀ i, i < kk + 1 + ng → cov T'.1.2.1 T'.1.2.2.1 SL im (Xc i) (ce (n0 + i)) ∧ cuN Bc (ce (n0 + i))) ∧ (∀ i, i < n0 → ce i = ce0 i) ∧ rd σ' 69 p = i32 (n0 : Int) ∧ (∀ i, i ≠ p → rd σ' 69 i = rd σ 69 i) ∧ frT (59 :: 60 :: 69 :: FCK) (59 :: 60 :: FCK) [8, 11, 12, 14] σ σ' ∧ LOC T T' (fun b => b = 0) (fun b => ∃ i, i < kk + 1 + ng ∧ b = ce (n0 + i)) ∧ (∀ t u, yC T t < yN T → (yH T' (yC T t) u ↔ yH T (yC T t) u)) ∧ FD65 σ σ' := by
  obtain ⟨⟨Nc, C, c, hc, Hc, S⟩, ⟨Nm, M, m, hm, Hm, Sm, Sh⟩, Z⟩ := T
  obtain ⟨⟨hCt, hM, hJ⟩, fC, fM, hP, b1, b2, b3⟩ := hT
  have hJ : JZ Nc C c hc Nm M m hm Z := hJ
  have fC : FB1 Bc Nc C c hc f Rc := fC
  have hP : PDK Bc Nc C c hc Z pd := hP
  have hX : ∀ i, i < kk + 1 + ng → Xc i < Nc ∧ Rc g (c (Xc i)) := hX
  have hN : Nc + 64 + n + u ≤ 122000 := hN
  have hH : Hc + 100 < 212992 := hH
  have hS : S + 2 + 100000 * a ≤ 1000000000 := hS
  obtain ⟨hl, hv0, t1, t2, t3, t4, t5, gC, t7, t8⟩ := hCt
  have t1 : TC Nc C c σ := t1
  have t2 : HO Nc c hl hv0 Hc σ := t2
  have t3 : HK Nc C c hl := t3
  have t8 : hc = hC hl hv0 := t8
  have hfr : FRZ Bc C c (hC hl hv0) (Rc g) := by have := fC.2.2.2.2.2.1 g hg; rw [t8] at this; exact this
  have fB := fC.2.1
  have hB := hfr.cpB (N0 := Nc) (H := Hc) fB (fun x hx => ⟨(t1.2.2.2.2.2.2.1 x (by omega)).2.1, t1.2.2.2.2.2.2.2 x⟩) (fun t ht hr i hi => by
    have h5 := (t2.2.2.2.2.1 t (by omega) hr).2.2.1 i hi
    exact ⟨h5, (t2.2.2.2.1 i h5).2⟩) (fun x hx => (t1.2.2.2.2.2.1 x hx).1)
  have h4 : ∀ x, C.1 x ≤ 4 := fun x => by
    by_cases q : x < Nc
    · exact (t1.2.2.2.2.2.2.1 x q).2.1
    · have := (t1.2.2.2.2.2.1 x (by omega)).2; omega
  obtain ⟨σ', N', C', hl', hv', H', im, SL, PL, ce, k1, I1, T1, H1, S1, R1, K1', E1, O1, p1, p2, fr1, fd1⟩ := callcopy_c (L := L) (xs := xs) hB h4 t1.2.2.2.2.2.2.2 (by omega) hH (by omega) hn hX t1 t2 t4 t5 t7 hK hG hp hv d v2 v3
  obtain ⟨i1, i2, i3, i4, i5, i6, i7, i8, i9, i10, i11, i12, i13, i14, i15, i16⟩ := id I1
  have clt : ∀ y, y < Nc → c y < Nc := fun y hy => t1.rlt hy
  have iC := t1.2.2.2.2.2.2.2
  have hint : ∀ y, C'.1 y = 1 ↔ C.1 y = 1 := fun y => by rw [T1.2.2.2.2.2.2.2 y, iC y]
  have hold1 : ∀ y, y < Nc → c y = y → ∀ v, hC hl' hv' y v ↔ hc y v := by
    intro y hy hr v
    rw [t8]
    have e := i11 y hy
    have lt := (t2.2.2.2.2.1 y hy hr).2.2.1
    constructor
    · rintro ⟨i, hi, e2⟩
      rw [e] at hi
      exact ⟨i, hi, by rw [← i12 i (lt i hi)]; exact e2⟩
    · rintro ⟨i, hi, e2⟩
      exact ⟨i, by rw [e]; exact hi, by rw [i12 i (lt i hi)]; exact e2⟩
  have hSLb : SL.length ≤ 64 := hB.2.1 SL i2 (fun t ht => ⟨(i3 t ht).1, (i3 t ht).2.1⟩)
  have hPLb : PL.length ≤ 100 := hB.2.2.1 PL i15 (fun q hq => by
    obtain ⟨y1, y1', y2, y3, y4, _⟩ := i16 q hq
    exact ⟨y2, y3, y4⟩)
  have gC' := I1.gP hB clt (fun x hx h2 => t1.kid x h2) gC (fun x hx => (T1.2.2.2.2.2.1 x hx).2)
  have hKn : HK N' C' c hl' := by
    intro t ht hr hne
    by_cases e : t < Nc
    · rw [i11 t e] at hne
      rw [(i10 t e).1]; exact t3 t e hr hne
    · obtain ⟨s, hs, e2⟩ := i5 t (by omega) ht
      subst e2
      obtain ⟨j, hj⟩ : ∃ j, j ∈ hl' (im s) := by
        cases hq : hl' (im s) with
        | nil => exact absurd hq hne
        | cons a b => exact ⟨a, List.mem_cons_self⟩
      obtain ⟨_, _, y3⟩ := i8 s hs (fun k => (by cases k))
      obtain ⟨i, hi, _⟩ := y3 j hj
      have sN := (hB.1 s (i3 s hs).1)
      rw [(i3 s hs).2.2.2.2]
      exact t3 s sN.1 sN.2.1 (fun k => by rw [k] at hi; cases hi)
  have zz := zG.growC (C' := C') hJ.1 hJ.2.1 (fun x y hz => i10 _ (clt x (hJ.2.2.1 _ _ hz).1)) hint
  have zh : zH C' c (hC hl' hv') M m hm Z := by
    refine ⟨fun x y w hz hu hk => ?_, fun x y v hz hv hk => ?_⟩
    · exact zz.2.1 x y w hz ((hold1 _ (clt x (hJ.2.2.1 _ _ hz).1) (gC.1 x) w).mp hu) hk
    · obtain ⟨w, q1, q2⟩ := zz.2.2 x y v hz hv hk
      exact ⟨w, (hold1 _ (clt x (hJ.2.2.1 _ _ hz).1) (gC.1 x) w).mpr q1, q2⟩
  have cu : ∀ w v, cov C c SL im w v → cuN Bc v := by
    rintro w v (⟨q1, q2⟩ | ⟨q1, q2, q3⟩)
    · exact .inr (by rw [q2]; exact (iC _).mp q1)
    · left; rw [q3]; have := (i3 _ q2).2.2.1; omega
  have fC' : FB1 Bc N' C' c (hC hl' hv') f Rc := by
    obtain ⟨f1, f2, f3, f4, f5, f6, f7, f8⟩ := fC
    refine ⟨f1, by omega, f3, f4, fun x hx h2 => ?_, fun g' hg' => (f6 g' hg').keep (Nat.le_refl _) (fun x hx => i10 x (by omega)) f3 hint (fun t ht w => ?_), fun x w hx hu => ?_, fun x w hx hu => f8 x w hx ((hold1 (c x) (by omega) (gC.1 x) w).mp hu)⟩
    · by_cases e : x < Nc
      · rw [(i10 x e).1] at h2 ⊢
        rw [(i10 x e).2.1, (i10 x e).2.2]
        exact f5 x hx h2
      · have hxN : x < N' := by
          apply Classical.byContradiction
          intro k
          have := (T1.2.2.2.2.2.1 x (by omega)).2
          omega
        obtain ⟨s, hs, e2⟩ := i5 x (by omega) hxN
        subst e2
        rw [(i3 s hs).2.2.2.2] at h2 ⊢
        obtain ⟨y1, _⟩ := i8 s hs (fun k => (by cases k))
        exact ⟨cu _ _ (y1 h2).1, fun h3 => cu _ _ ((y1 h2).2 h3)⟩
    · obtain ⟨e1, e2, _⟩ := (f6 g' hg').1 t ht
      exact hold1 t (by omega) e2 w
    · by_cases e : c x < Nc
      · exact f7 x w hx ((hold1 (c x) e (gC.1 x) w).mp hu)
      · obtain ⟨j, hj, e3⟩ := hu
        have hxN : c x < N' := by
          apply Classical.byContradiction
          intro k
          rw [i13 (c x) (by omega)] at hj; cases hj
        obtain ⟨s, hs, e2⟩ := i5 (c x) (by omega) hxN
        rw [← e2] at hj
        obtain ⟨_, _, y3⟩ := i8 s hs (fun k => (by cases k))
        obtain ⟨i, _, _, hcv⟩ := y3 j hj
        rw [e3] at hcv
        have c0 : c 0 = 0 := (iC _).mp (by rw [gC.2.1 0 (by rw [(iC 0).mpr rfl]; decide)]; exact (iC 0).mpr rfl)
        rcases cu _ _ hcv with k | k
        · exact f4 w k
        · right; rw [k]; exact c0
  have dC := I1.D hB clt
  have hP' : PDK Bc N' C' c (hC hl' hv') Z ((p, SL, im) :: pd) := by
    refine ⟨fun e he => ?_, List.pairwise_cons.mpr ⟨fun e he t t' ht ht' k => ?_, hP.2⟩⟩
    · rcases List.mem_cons.mp he with q | q
      · subst q
        refine ⟨dC, fun t ht => ?_⟩
        obtain ⟨y1, y2, y3, y4, y5⟩ := i3 t ht
        refine ⟨(hfr.1 t y1).1, fun k => y2 ((iC t).mpr k), by show Bc ≤ im t; omega, y4, fun y hz => ?_⟩
        have := (hJ.2.2.1 _ _ hz).1
        have : im t < Nc := this
        omega
      · obtain ⟨y1, y2⟩ := hP.1 e q
        refine ⟨y1.keep hint (fun t ht => ?_), fun t ht => ?_⟩
        · obtain ⟨z1, z2, z3, z4, z5⟩ := y2 t ht
          have r1 := y1.1 t ht
          exact ⟨i10 t (by omega), i10 _ z4, hold1 t (by omega) r1.1, hold1 _ z4 r1.2.2.1⟩
        · obtain ⟨z1, z2, z3, z4, z5⟩ := y2 t ht
          exact ⟨z1, z2, z3, by omega, z5⟩
    · have q1 := (i3 t ht).2.2.1
      have q2 := ((hP.1 e he).2 t' ht').2.2.2.1
      have k : im t = e.2.2 t' := k
      omega
  refine ⟨σ', ((N', C', c, hC hl' hv', H', S + 2), (Nm, M, m, hm, Hm, Sm, Sh), Z), SL, im, ce, k1, ⟨⟨⟨hl', hv', T1, H1, hKn, S1, R1, gC', i13, rfl⟩, hM, zz.1, zh, ?_, hJ.2.2.2⟩, fC', fM, hP', ?_, hS, b3⟩, ⟨fun _ _ h => h, fun x hx => ?_, ?_, Nat.le_refl _, fun _ _ => rfl, fun _ _ => rfl, fun x hx => (i10 x (by have := fC.2.1; omega)).1, fun x hx => ⟨(i10 x (by have := fC.2.1; omega)).2, fun e v => ⟨fun ⟨u, q1, q2⟩ => ⟨u, (hold1 x (by have := fC.2.1; omega) e u).mp q1, q2⟩, fun ⟨u, q1, q2⟩ => ⟨u, (hold1 x (by have := fC.2.1; omega) e u).mpr q1, q2⟩⟩⟩⟩, rfl, ?_, rfl, ?_, rfl, K1', fun i hi => ⟨?_, cu _ _ (E1 i hi).1⟩, O1, p1, p2, fr1, ?_, fun t u hlt => hold1 _ hlt (gC.1 t) u, fd1⟩
  · intro x y hz
    have := hJ.2.2.1 _ _ hz
    show x < N' ∧ y < Nm
    omega
  · show N' + n + u ≤ _; omega
  · show C'.1 (c x) = C.1 (c x)
    have hx : C.1 (c x) ≠ 0 := hx
    have : c x < Nc := by
      apply Classical.byContradiction
      intro k
      exact hx (t1.2.2.2.2.2.1 _ (by omega)).2
    exact (i10 _ this).1
  · show Nc ≤ N'; omega
  · show N' ≤ Nc + 64; omega
  · show H' ≤ Hc + 100; omega
  · exact (E1 i hi).1.to (clt _ (hX i hi).1) (fun x hx => (i10 x hx).1)
  · have cP : ∀ (P : Nat → Prop), (∀ x, Nc ≤ x → P x) → P 0 → ∀ w v, cov C c SL im w v → P v := by
      rintro P p2 p0 w v (⟨q1, q2⟩ | ⟨q1, q2, q3⟩)
      · rw [q2, (iC _).mp q1]; exact p0
      · rw [q3]; exact p2 _ (i3 _ q2).2.2.1
    refine ⟨⟨by show Nc ≤ N'; omega, fun x hx => i10 x hx, fun _ _ h => h, fun s v h => ⟨v, ?_, rfl⟩⟩, fun P p1 p2 p3 => ⟨fun x hx hk => ?_, ?_, fun t u h => ?_, fun R _ _ h _ => h⟩⟩
    · have h : hc (c s) v := h
      have hlt : c s < Nc := by
        apply Classical.byContradiction
        intro q
        rw [t8] at h
        obtain ⟨i, hi, _⟩ := h
        rw [t7 _ (Nat.le_of_not_lt q)] at hi; cases hi
      exact (hold1 _ hlt (gC.1 s) v).mpr h
    · have hk : 2 ≤ C'.1 x := hk
      have hxN : x < N' := by
        apply Classical.byContradiction
        intro k
        have := (T1.2.2.2.2.2.1 x (by omega)).2
        omega
      obtain ⟨s, hs, e2⟩ := i5 x hx hxN
      subst e2
      show P (C'.2.1 (im s)) ∧ (C'.1 (im s) ≠ 3 → P (C'.2.2 (im s)))
      rw [(i3 s hs).2.2.2.2] at hk ⊢
      obtain ⟨y1, _⟩ := i8 s hs (fun k => (by cases k))
      exact ⟨cP P p2 (p3 0 rfl) _ _ (y1 hk).1, fun h3 => cP P p2 (p3 0 rfl) _ _ ((y1 hk).2 h3)⟩
    · rintro x ⟨i, hi, e⟩
      rw [e]; exact cP P p2 (p3 0 rfl) _ _ (E1 i hi).1
    · have h : hC hl' hv' (c t) u := h
      by_cases q : c t < Nc
      · exact .inl ⟨t, u, rfl, (hold1 _ q (gC.1 t) u).mp h, rfl⟩
      · have et : c t = t := by
          by_cases k : t < Nc
          · have := clt t k; omega
          · exact (t1.2.2.2.2.2.1 t (by omega)).1
        rw [et] at h q
        right
        refine ⟨by show Nc ≤ t; omega, ?_⟩
        have htN : t < N' := by
          apply Classical.byContradiction
          intro k
          obtain ⟨i, hi, _⟩ := h
          rw [i13 t (by omega)] at hi; cases hi
        obtain ⟨s, hs, e2⟩ := i5 t (by omega) htN
        subst e2
        obtain ⟨_, _, y3⟩ := i8 s hs (fun k => (by cases k))
        obtain ⟨j, hj, e⟩ := h
        obtain ⟨i, _, _, hcv⟩ := y3 j hj
        rw [e] at hcv
        exact cP P p2 (p3 0 rfl) _ _ hcv
end COPYC
