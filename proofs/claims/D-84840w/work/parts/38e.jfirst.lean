/-! TYPING, BOTH: the model copies what a call calls -/
section TJF
variable {L : Nat} {xs : Nat → Int32} {σ σ' τ τ' : tvS}
theorem ct_cover {p : Nat → Prop} [DecidablePred p] {N0 : Nat} {im : Nat → Nat} {l : List Nat} (hl : ∀ x, N0 ≤ x → p x → ∃ t, t ∈ l ∧ im t = x) (hi : ∀ t t', t ∈ l → t' ∈ l → im t = im t' → t = t') : ∀ N, N0 ≤ N → ct p N ≤ ct p N0 + l.length := by
  have key : ∀ k, ∃ xs : List Nat, xs.Nodup ∧ (∀ x, x ∈ xs → N0 ≤ x ∧ x < N0 + k ∧ p x) ∧ ct p (N0 + k) = ct p N0 + xs.length := by
    intro k
    induction k with
    | zero => exact ⟨[], List.nodup_nil, fun x hx => (by cases hx), rfl⟩
    | succ k ih =>
      obtain ⟨xs, h1, h2, h3⟩ := ih
      by_cases q : p (N0 + k)
      · refine ⟨(N0 + k) :: xs, List.nodup_cons.mpr ⟨fun h => by have := (h2 _ h).2.1; omega, h1⟩, fun x hx => ?_, ?_⟩
        · rcases List.mem_cons.mp hx with e | e
          · rw [e]; exact ⟨by omega, by omega, q⟩
          · have := h2 x e; exact ⟨this.1, by omega, this.2.2⟩
        · show ct p (N0 + k) + (if p (N0 + k) then 1 else 0) = _
          rw [if_pos q, h3, List.length_cons]; omega
      · refine ⟨xs, h1, fun x hx => by have := h2 x hx; exact ⟨this.1, by omega, this.2.2⟩, ?_⟩
        show ct p (N0 + k) + (if p (N0 + k) then 1 else 0) = _
        rw [if_neg q, h3]; omega
  intro N hN
  obtain ⟨xs, h1, h2, h3⟩ := key (N - N0)
  rw [show N0 + (N - N0) = N from by omega] at h3
  have : xs.length ≤ (l.map im).length := nodup_len xs (l.map im) h1 (fun x hx => by
    obtain ⟨t, ht, e⟩ := hl x (h2 x hx).1 (h2 x hx).2.2
    rw [← e]; exact List.mem_map_of_mem ht)
  rw [List.length_map] at this
  omega
/-- a call and what it calls, on both sides: X, the types of the function; E, what the component has kept of its copy -/
theorem TJ.first {K1 K2 Bc Bm f : Nat} {Rc Rm : Nat → Nat → Prop} {pd : List (Nat × List Nat × (Nat → Nat))} {n u a rc : Nat} {T : tyJ} {q g kk V ng n0 : Nat} {SL : List Nat} {im : Nat → Nat} {Xc Xm E ce0 : Nat → Nat} (hT : TJ K1 K2 Bc Bm f Rc Rm ((q, SL, im) :: pd) n u a (rc + 1) T σ τ) (hg : g < f) (hkk : kk ≤ 5)
    (hE : ∀ i, i < kk + 1 + ng → T.2.2 (Xc i) (Xm i) ∧ cov T.1.2.1 T.1.2.2.1 SL im (Xc i) (E i) ∧ Rm g (T.2.1.2.2.1 (Xm i))) (hK : KM n0 ce0 τ) (hn : n0 + kk + 1 + ng ≤ 60000) (hG : SGM g kk V ng Xm τ) (hq : q < 6000) (hw : rd τ 157 q = i32 (g : Int)) (hpc : rd τ 181 q = i32 (-1)) (d : Nat) (v2 v3 : Value) :
    ∃ (τ' : tvS) (T' : tyJ) (ce : Nat → Nat), rn L xs (d + 6) 335 0 [.ref 123, .int (i32 (q : Int)), v2, v3] [] τ = some (.inl (some (.int (i32 (n0 : Int)))), τ') ∧ TJ K1 K2 Bc Bm f Rc Rm pd n u a rc T' σ τ' ∧ exT Bc Bm T T' ∧ T'.1 = T.1 ∧ KM (n0 + (kk + 1 + ng)) ce τ' ∧ (∀ i, i < kk + 1 + ng → T'.2.2 (E i) (ce (n0 + i)) ∧ cuN Bm (ce (n0 + i))) ∧ (∀ i, i < n0 → ce i = ce0 i) ∧ rd τ' 181 q = i32 (n0 : Int) ∧ (∀ i, i ≠ q → rd τ' 181 i = rd τ 181 i) ∧ frM (181 :: FCF) [63, 72, 73, 82, 84] τ τ' := by
  obtain ⟨⟨Nc, C, c, hc, Hc, S⟩, ⟨Nm, M, m, hm, Hm, Sm, Sh⟩, Z⟩ := T
  obtain ⟨⟨hCt, hM, hJ⟩, fC, fM, hP, b1, b2, b3, b4, b5, b6, b7⟩ := hT
  have hCt : CT K1 K2 Nc C c hc Hc S σ := hCt
  have hM : MY Nm M m hm Hm Sm Sh τ := hM
  have hJ : JZ Nc C c hc Nm M m hm Z := hJ
  have fM : FB1 Bm Nm M m hm f Rm := fM
  have hP : PDK Bc Nc C c hc Z ((q, SL, im) :: pd) := hP
  have hE : ∀ i, i < kk + 1 + ng → Z (Xc i) (Xm i) ∧ cov C c SL im (Xc i) (E i) ∧ Rm g (m (Xm i)) := hE
  have b3 : Nm + n + u + 64 * (rc + 1) ≤ 99000 := b3
  have b4 : ct (fun y => 2 ≤ M.1 y) Nm + n + 24 * (rc + 1) ≤ 49990 := b4
  have b5 : Hm + 100 * (rc + 1) ≤ 240000 := b5
  have b6 : Sm + 100001 * a + (rc + 1) ≤ 1000000000 := b6
  have b7 : Sh + 100001 * a + 20000 * (rc + 1) ≤ 1500000000 := b7
  obtain ⟨hl, hv, ⟨t1, t2, t3, t4, t5⟩, gM, t7, t8⟩ := hM
  obtain ⟨gC, tC⟩ : gP C c ∧ TC Nc C c σ := by
    obtain ⟨hl, hv, h1, _, _, _, _, h6, _⟩ := hCt
    exact ⟨h6, h1⟩
  have hfr : FRZ Bm M m (hC hl hv) (Rm g) := by have := fM.2.2.2.2.2.1 g hg; rw [t8] at this; exact this
  have hB := hfr.cpB (N0 := Nm) (H := Hm) fM.2.1 (fun x hx => ⟨(t1.2.2.2.2.2.1 x (by have := fM.2.1; omega)).2.1, t1.2.2.2.2.2.2 x⟩) (fun t ht hr i hi => by
    have h5 := (t2.2.2.2.1 t (by have := fM.2.1; omega) hr).2.2 i hi
    exact ⟨h5, (t2.2.2.1 i h5).2⟩) (fun x hx => (t1.2.2.2.2.1 x hx).1)
  obtain ⟨τ', N', M', hl', hv', H', Sh', jm, SLm, PL, ce, k1, I1, T1, H1, MT1, MH1, hSh', K1', E1, O1, p1, p2, fr1⟩ := first_m (L := L) (xs := xs) hB (by omega) (by omega) (by omega) (by omega) (by omega) hkk hn (fun i hi => ⟨(hJ.2.2.1 _ _ (hE i hi).1).2, (hE i hi).2.2⟩) t1 t2 t3 t4 t5 gM t7 hK hG hq hw hpc d v2 v3
  obtain ⟨i1, i2, i3, i4, i5, i6, i7, i8, i9, i10, i11, i12, i13, i14, i15, i16⟩ := id I1
  have mlt : ∀ y, y < Nm → m y < Nm := fun y hy => t1.rlt hy
  have hint : ∀ y, M'.1 y = 1 ↔ M.1 y = 1 := fun y => by rw [T1.2.2.2.2.2.2 y, t1.2.2.2.2.2.2 y]
  have hold1 : ∀ y, y < Nm → m y = y → ∀ v, hC hl' hv' y v ↔ hm y v := by
    intro y hy hr v
    rw [t8]
    have e := i11 y hy
    have lt := (t2.2.2.2.1 y hy hr).2.2
    constructor
    · rintro ⟨i, hi, e2⟩
      rw [e] at hi
      exact ⟨i, hi, by rw [← i12 i (lt i hi)]; exact e2⟩
    · rintro ⟨i, hi, e2⟩
      exact ⟨i, by rw [e]; exact hi, by rw [i12 i (lt i hi)]; exact e2⟩
  have hpe := hP.1 (q, SL, im) List.mem_cons_self
  have dM := I1.D hB mlt
  have zz := cp_Z hJ.1 hJ.2.1 gC.1 gM.1 hpe.1 dM (fun x y hz => by
      have hy := mlt y (hJ.2.2.1 _ _ hz).2
      exact ⟨(i10 _ hy).1, (i10 _ hy).2.1, (i10 _ hy).2.2, hold1 _ hy (gM.1 y)⟩) hint (fun t ht => (hpe.2 t ht).2.2.2.2) (fun s hs x hx => by
      have := (hJ.2.2.1 _ _ hx).2
      have := (i3 s hs).2.2.1; omega)
  have gM' := I1.gP hB mlt (fun x hx h2 => t1.kid x h2) gM (fun x hx => (T1.2.2.2.2.1 x hx).2)
  have hSLb : SLm.length ≤ 64 := hB.2.1 SLm i2 (fun t ht => ⟨(i3 t ht).1, (i3 t ht).2.1⟩)
  have hPLb : PL.length ≤ 100 := hB.2.2.1 PL i15 (fun p hp => by
    obtain ⟨y1, y1', y2, y3, y4, _⟩ := i16 p hp
    exact ⟨y2, y3, y4⟩)
  have hKn : HK N' M' m hl' := by
    intro t ht hr hne
    by_cases e : t < Nm
    · rw [i11 t e] at hne
      rw [(i10 t e).1]; exact t3 t e hr hne
    · obtain ⟨s, hs, e2⟩ := i5 t (by omega) ht
      subst e2
      obtain ⟨j, hj⟩ : ∃ j, j ∈ hl' (jm s) := by
        cases hq : hl' (jm s) with
        | nil => exact absurd hq hne
        | cons a b => exact ⟨a, List.mem_cons_self⟩
      obtain ⟨_, _, y3⟩ := i8 s hs (fun k => (by cases k))
      obtain ⟨i, hi, _⟩ := y3 j hj
      have sN := (hB.1 s (i3 s hs).1)
      rw [(i3 s hs).2.2.2.2]
      exact t3 s sN.1 sN.2.1 (fun k => by rw [k] at hi; cases hi)
  have hct : ct (fun y => 2 ≤ M'.1 y) N' ≤ ct (fun y => 2 ≤ M.1 y) Nm + 24 := by
    have h1 := hfr.2.1 (SLm.filter (fun t => decide (2 ≤ M.1 t))) (i2.filter _) (fun t ht => by
      rw [List.mem_filter, decide_eq_true_eq] at ht; exact ⟨(i3 t ht.1).1, ht.2⟩)
    have h2 := ct_cover (p := fun y => 2 ≤ M'.1 y) (N0 := Nm) (im := jm) (l := SLm.filter (fun t => decide (2 ≤ M.1 t))) (fun x hx hp => by
      have hxN : x < N' := by
        apply Classical.byContradiction
        intro k
        have := (T1.2.2.2.2.1 x (by omega)).2
        have hp : 2 ≤ M'.1 x := hp
        omega
      obtain ⟨s, hs, e⟩ := i5 x hx hxN
      refine ⟨s, ?_, e⟩
      rw [List.mem_filter, decide_eq_true_eq]
      have hp : 2 ≤ M'.1 x := hp
      rw [← e, (i3 s hs).2.2.2.2] at hp
      exact ⟨hs, hp⟩) (fun t t' ht ht' e => i4 t t' (List.mem_filter.mp ht).1 (List.mem_filter.mp ht').1 e) N' (by omega)
    have h3 := ct_congr (p := fun y => 2 ≤ M'.1 y) (q := fun y => 2 ≤ M.1 y) Nm (fun x hx => by rw [(i10 x hx).1])
    omega
  have fM' : FB1 Bm N' M' m (hC hl' hv') f Rm := by
    obtain ⟨f1, f2, f3, f4, f5, f6, f7, f8⟩ := fM
    refine ⟨f1, by omega, f3, f4, fun x hx h2 => ?_, fun g' hg' => (f6 g' hg').keep (Nat.le_refl _) (fun x hx => i10 x (by omega)) f3 hint (fun t ht u => ?_), fun x u hx hu => ?_, fun x u hx hu => f8 x u hx ((hold1 (m x) (by omega) (gM.1 x) u).mp hu)⟩
    · by_cases e : x < Nm
      · rw [(i10 x e).1] at h2 ⊢
        rw [(i10 x e).2.1, (i10 x e).2.2]
        exact f5 x hx h2
      · have hxN : x < N' := by
          apply Classical.byContradiction
          intro k
          have := (T1.2.2.2.2.1 x (by omega)).2
          omega
        obtain ⟨s, hs, e2⟩ := i5 x (by omega) hxN
        subst e2
        rw [(i3 s hs).2.2.2.2] at h2 ⊢
        obtain ⟨y1, _⟩ := i8 s hs (fun k => (by cases k))
        have cu : ∀ u v, cov M m SLm jm u v → Bm ≤ v ∨ v = 0 := by
          rintro u v (⟨q1, q2⟩ | ⟨q1, q2, q3⟩)
          · exact .inr (by rw [q2]; exact (t1.2.2.2.2.2.2 _).mp q1)
          · left; rw [q3]; have := (i3 _ q2).2.2.1; omega
        exact ⟨cu _ _ (y1 h2).1, fun h3 => cu _ _ ((y1 h2).2 h3)⟩
    · obtain ⟨e1, e2, _⟩ := (f6 g' hg').1 t ht
      exact hold1 t (by omega) e2 u
    · by_cases e : m x < Nm
      · exact f7 x u hx ((hold1 (m x) e (gM.1 x) u).mp hu)
      · obtain ⟨j, hj, e3⟩ := hu
        have hxN : m x < N' := by
          apply Classical.byContradiction
          intro k
          rw [i13 (m x) (by omega)] at hj; cases hj
        obtain ⟨s, hs, e2⟩ := i5 (m x) (by omega) hxN
        rw [← e2] at hj
        obtain ⟨_, _, y3⟩ := i8 s hs (fun k => (by cases k))
        obtain ⟨i, _, _, hcv⟩ := y3 j hj
        rw [e3] at hcv
        have m0 : m 0 = 0 := (t1.2.2.2.2.2.2 _).mp (by rw [gM.2.1 0 (by rw [(t1.2.2.2.2.2.2 0).mpr rfl]; decide)]; exact (t1.2.2.2.2.2.2 0).mpr rfl)
        rcases hcv with ⟨q1, q2⟩ | ⟨q1, q2, q3⟩
        · right; rw [q2, (t1.2.2.2.2.2.2 _).mp q1]; exact m0
        · exact f4 u (by rw [q3]; have := (i3 _ q2).2.2.1; omega)
  have hP' : PDK Bc Nc C c hc (zC Z SL im SLm jm) pd := by
    refine ⟨fun e he => ?_, (List.pairwise_cons.mp hP.2).2⟩
    obtain ⟨y1, y2⟩ := hP.1 e (List.mem_cons_of_mem _ he)
    refine ⟨y1, fun t ht => ?_⟩
    obtain ⟨z1, z2, z3, z4, z5⟩ := y2 t ht
    refine ⟨z1, z2, z3, z4, ?_⟩
    rintro y (k | ⟨t0, s0, k1, k2, k3, k4, k5⟩)
    · exact z5 y k
    · exact (List.pairwise_cons.mp hP.2).1 e he t0 t k1 ht k4.symm
  have cuE : ∀ u v, cov M m SLm jm u v → cuN Bm v := by
    rintro u v (⟨q1, q2⟩ | ⟨q1, q2, q3⟩)
    · exact .inr (by rw [q2]; exact (t1.2.2.2.2.2.2 _).mp q1)
    · left; rw [q3]; have := (i3 _ q2).2.2.1; have := fM.2.1; omega
  have kd : ∀ {x y}, Z x y → C.1 (c x) = M.1 (m y) := fun {x y} h => hJ.1.2.2.1 x y h
  have cl : ∀ {x y}, Z x y → Z (c x) (m y) := fun h => hJ.1.2.1 _ _ _ _ h (gC.1 _) (gM.1 _)
  have cz : ∀ {u w v v'}, Z u w → cov C c SL im u v → cov M m SLm jm w v' → zC Z SL im SLm jm v v' := by
    intro u w v v' hz a b
    have k := kd hz
    rcases a with ⟨a1, a2⟩ | ⟨a1, a2, a3⟩ <;> rcases b with ⟨b1, b2⟩ | ⟨b1, b2, b3⟩
    · rw [a2, b2]; exact .inl (cl hz)
    · omega
    · omega
    · exact .inr ⟨c u, m w, a2, b2, cl hz, a3, b3⟩
  refine ⟨τ', ((Nc, C, c, hc, Hc, S), (N', M', m, hC hl' hv', H', Sm + 1, Sh'), zC Z SL im SLm jm), ce, k1, ⟨⟨hCt, ⟨hl', hv', ⟨T1, H1, hKn, MT1, MH1⟩, gM', i13, rfl⟩, zz.1, zz.2, ?_, .inl hJ.2.2.2⟩, fC, fM', hP', b1, b2, ?_, ?_, ?_, ?_, ?_⟩, ⟨fun x y h => .inl h, fun _ _ => rfl, Nat.le_refl _, ?_, fun _ _ => rfl, fun _ _ => rfl, fun _ _ => rfl, fun _ _ => ⟨⟨rfl, rfl⟩, fun _ _ => Iff.rfl⟩⟩, rfl, K1', fun i hi => ⟨cz (hE i hi).1 (hE i hi).2.1 (E1 i hi).1, cuE _ _ (E1 i hi).1⟩, O1, p1, p2, fr1⟩
  · rintro x y (k | ⟨t0, s0, k1, k2, k3, k4, k5⟩)
    · have := hJ.2.2.1 _ _ k
      exact ⟨this.1, by show y < N'; omega⟩
    · exact ⟨by rw [k4]; exact (hpe.2 t0 k1).2.2.2.1, by rw [k5]; exact (i3 s0 k2).2.2.2.1⟩
  · show N' + n + u + 64 * rc ≤ _; omega
  · show ct (fun y => 2 ≤ M'.1 y) N' + n + 24 * rc ≤ _; omega
  · show H' + 100 * rc ≤ _; omega
  · show Sm + 1 + 100001 * a + rc ≤ _; omega
  · show Sh' + 100001 * a + 20000 * rc ≤ _; omega
  · show Nm ≤ N'; omega
end TJF
