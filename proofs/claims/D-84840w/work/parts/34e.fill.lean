/-! TYPES OF THE COMPONENT: a copy is filled -/
section CPA
variable {L : Nat} {xs : Nat → Int32} {σ σ' : tvS}
/-- the copy's arrow holds one more -/
theorem cpI.hold {N0 : Nat} {G0 : tG} {r : Nat → Nat} {hl0 : Nat → List Nat} {hv0 : Nat → Nat} {H0 : Nat} {RS : Nat → Prop} {N : Nat} {G : tG} {hl : Nat → List Nat} {hv : Nat → Nat} {H : Nat} {im : Nat → Nat} {SL : List Nat} {PL : List (Nat × Nat)} {W : List Nat} {t i v : Nat} {l' : List Nat}
    (hI : cpI N0 G0 r hl0 hv0 H0 RS N G hl hv H im SL PL [t] W) (hj : ∀ s, s ∈ SL → ∀ j, j ∈ hl (im s) → j < H) (hi : i ∈ hl0 t) (hk : G0.1 (r (hv0 i)) ≠ 1) (hc : cov G0 r SL im (hv0 i) v) (hnew : ¬ ∃ j, j ∈ hl (im t) ∧ hv j = v) (hl' : ∀ j, j ∈ l' ↔ j ∈ hl (im t) ∨ j = H) :
    cpI N0 G0 r hl0 hv0 H0 RS N G (upL hl (im t) l') (upN hv H v) (H + 1) im SL ((t, r (hv0 i)) :: PL) [t] W := by
  obtain ⟨i1, i2, i3, i4, i5, i6, i7, i8, i9, i10, i11, i12, i13, i14, i15, i16⟩ := hI
  have ht : t ∈ SL := i6 t (List.mem_append_left _ (List.mem_singleton.mpr rfl))
  obtain ⟨t1, t2, t3, t4, t5⟩ := i3 t ht
  have hvE : r (hv0 i) ∈ SL ∧ v = im (r (hv0 i)) := by
    rcases hc with h | h
    · exact absurd h.1 hk
    · exact h.2
  have oth : ∀ s, s ∈ SL → s ≠ t → upL hl (im t) l' (im s) = hl (im s) := fun s hs hne => if_neg (fun e => hne (i4 s t hs ht e))
  have hvO : ∀ s, s ∈ SL → ∀ j, j ∈ hl (im s) → upN hv H v j = hv j := fun s hs j hjj => if_neg (by have := hj s hs j hjj; omega)
  refine ⟨i1, i2, i3, i4, i5, i6, i7, fun s hs hns => ?_, fun s hs => ?_, i10, fun x hx => ?_, fun j hjj => ?_, fun s hs => ?_, ?_, ?_, fun p hp => ?_⟩
  · have hne : s ≠ t := fun e => hns (by rw [e]; exact List.mem_append_left _ (List.mem_singleton.mpr rfl))
    obtain ⟨y1, y2, y3⟩ := i8 s hs hns
    rw [oth s hs hne]
    refine ⟨y1, fun k hk1 hk2 => ?_, fun j hjj => ?_⟩
    · obtain ⟨j, z1, z2⟩ := y2 k hk1 hk2
      exact ⟨j, z1, by rw [hvO s hs j z1]; exact z2⟩
    · rw [hvO s hs j hjj]; exact y3 j hjj
  · have hsS : s ∈ SL := i6 s (List.mem_append_right _ hs)
    have hne : s ≠ t := fun e => by
      have := (List.nodup_append.mp i7).2.2 t (List.mem_singleton.mpr rfl) s hs
      exact this e.symm
    rw [oth s hsS hne]; exact i9 s hs
  · rw [show upL hl (im t) l' x = hl x from if_neg (by omega)]; exact i11 x hx
  · rw [show upN hv H v j = hv j from if_neg (by omega)]; exact i12 j hjj
  · rw [show upL hl (im t) l' s = hl s from if_neg (by omega)]; exact i13 s hs
  · rw [List.length_cons]; omega
  · refine List.nodup_cons.mpr ⟨fun h => ?_, i15⟩
    obtain ⟨y1, y1', y2, y3, y4, j, y5, y6⟩ := i16 _ h
    exact hnew ⟨j, y5, by rw [y6]; exact hvE.2.symm⟩
  · rcases List.mem_cons.mp hp with e | e
    · rw [e]
      refine ⟨ht, hvE.1, t1, hk, ⟨i, hi, rfl⟩, H, ?_, ?_⟩
      · show H ∈ upL hl (im t) l' (im t)
        rw [show upL hl (im t) l' (im t) = l' from if_pos rfl]
        exact (hl' H).mpr (.inr rfl)
      · rw [show upN hv H v H = v from if_pos rfl]; exact hvE.2
    · obtain ⟨y1, y1', y2, y3, y4, j, y5, y6⟩ := i16 p e
      refine ⟨y1, y1', y2, y3, y4, j, ?_, by rw [hvO p.1 y1 j y5]; exact y6⟩
      by_cases q : p.1 = t
      · rw [q, show upL hl (im t) l' (im t) = l' from if_pos rfl]
        rw [q] at y5; exact (hl' j).mpr (.inl y5)
      · rw [oth p.1 y1 q]; exact y5
theorem chL.same {σ σ' : tvS} : ∀ {l : List Nat} {x x' : Int32}, chL σ l x → chL σ' l x' → x = x' ∧ ∀ i, i ∈ l → rd σ 60 i = rd σ' 60 i := by
  intro l
  induction l with
  | nil => intro x x' h h'; exact ⟨h.trans h'.symm, fun i hi => (by cases hi)⟩
  | cons a l ih =>
    intro x x' h h'
    obtain ⟨e, f⟩ := ih h.2 h'.2
    refine ⟨h.1.trans h'.1.symm, fun i hi => ?_⟩
    rcases List.mem_cons.mp hi with q | q
    · rw [q]; exact e
    · exact f i q
/-- what the one at hand knows of its parts -/
def cpK (G0 : tG) (r : Nat → Nat) (N : Nat) (im : Nat → Nat) (SL : List Nat) (t va vb : Nat) (σ : tvS) : Prop :=
  2 ≤ G0.1 t → rd σ 53 (im t) = i32 (va : Int) ∧ va < N ∧ cov G0 r SL im (G0.2.1 t) va ∧ (G0.1 t ≠ 3 → rd σ 54 (im t) = i32 (vb : Int) ∧ vb < N ∧ cov G0 r SL im (G0.2.2 t) vb)
theorem cov.lt {N0 : Nat} {G0 : tG} {r : Nat → Nat} {hl0 : Nat → List Nat} {hv0 : Nat → Nat} {H0 : Nat} {RS : Nat → Prop} {N : Nat} {G : tG} {hl : Nat → List Nat} {hv : Nat → Nat} {H : Nat} {im : Nat → Nat} {SL : List Nat} {PL : List (Nat × Nat)} {cur W : List Nat} (hI : cpI N0 G0 r hl0 hv0 H0 RS N G hl hv H im SL PL cur W) {u v : Nat} (h : cov G0 r SL im u v) (hu : r u < N0) : v < N := by
  rcases h with h | h
  · rw [h.2, hI.1]; omega
  · rw [h.2.2]; exact (hI.2.2.1 _ h.2.1).2.2.2.1
/-- what the arrow at hand holds -/
theorem fill_hold {K1 K2 N0 S b1 b2 : Nat} {G0 : tG} {r : Nat → Nat} {hl0 : Nat → List Nat} {hv0 : Nat → Nat} {H0 : Nat} {RS : Nat → Prop} (hB : cpB N0 G0 r hl0 hv0 H0 RS b1 b2) (h0 : ∀ x, G0.1 x ≤ 4) (hb : N0 + b1 < 122880) (hb2 : H0 + b2 < 212992) (hS : 1 ≤ S) (hS2 : S < 2147483648) (hi1 : ∀ x, G0.1 x = 1 ↔ x = 0) {t va vb : Nat} (d : Nat) :
    ∀ (l : List Nat) (done : List Nat), done ++ l = hl0 t → ∀ {N : Nat} {G : tG} {hl : Nat → List Nat} {hv : Nat → Nat} {H : Nat} {im : Nat → Nat} {SL : List Nat} {PL : List (Nat × Nat)} {W : List Nat} {σ : tvS} {x3 : Int32}, cpI N0 G0 r hl0 hv0 H0 RS N G hl hv H im SL PL [t] W → cpS K1 K2 N0 S r N G hl hv H im SL [t] W σ → cpK G0 r N im SL t va vb σ → chL σ l x3 →
      (∀ i, i ∈ done → G0.1 (r (hv0 i)) ≠ 1 → ∃ j, j ∈ hl (im t) ∧ cov G0 r SL im (hv0 i) (hv j)) → (∀ j, j ∈ hl (im t) → ∃ i, i ∈ hl0 t ∧ G0.1 (r (hv0 i)) ≠ 1 ∧ cov G0 r SL im (hv0 i) (hv j)) → ∀ v1 v4 : Value,
      ∃ (σ' : tvS) (N' : Nat) (G' : tG) (hl' : Nat → List Nat) (hv' : Nat → Nat) (H' : Nat) (im' : Nat → Nat) (SL' : List Nat) (PL' : List (Nat × Nat)) (W' : List Nat) (w1 w3 w4 : Value), rn L xs (d + 4) 86 92 [.ref 50, v1, .int (i32 (im t)), .int x3, v4] [] σ = rn L xs (d + 4) 86 127 [.ref 50, w1, .int (i32 (im t)), w3, w4] [] σ' ∧
        cpI N0 G0 r hl0 hv0 H0 RS N' G' hl' hv' H' im' SL' PL' [t] W' ∧ cpS K1 K2 N0 S r N' G' hl' hv' H' im' SL' [t] W' σ' ∧ cpK G0 r N' im' SL' t va vb σ' ∧ (∀ i, i ∈ hl0 t → G0.1 (r (hv0 i)) ≠ 1 → ∃ j, j ∈ hl' (im' t) ∧ cov G0 r SL' im' (hv0 i) (hv' j)) ∧ (∀ j, j ∈ hl' (im' t) → ∃ i, i ∈ hl0 t ∧ G0.1 (r (hv0 i)) ≠ 1 ∧ cov G0 r SL' im' (hv0 i) (hv' j)) ∧ N ≤ N' ∧ 2 * (b1 - SL'.length) + W'.length ≤ 2 * (b1 - SL.length) + W.length ∧ (∀ s, s ∈ SL → s ∈ SL' ∧ im' s = im s) ∧ frT (59 :: 60 :: FCP) (59 :: 60 :: TCP) [8, 11, 14] σ σ' := by
  intro l
  induction l with
  | nil =>
    intro done hdn N G hl hv H im SL PL W σ x3 hI hM hK hc h1 h2 v1 v4
    rw [List.append_nil] at hdn
    subst hdn
    rw [e86_92, show x3 = i32 (-1) from hc, i32_raw, c2_refl]
    exact ⟨σ, N, G, hl, hv, H, im, SL, PL, W, v1, _, v4, rfl, hI, hM, hK, h1, h2, Nat.le_refl _, Nat.le_refl _, fun s hs => ⟨hs, rfl⟩, frT.refl⟩
  | cons i l ih =>
    intro done hdn N G hl hv H im SL PL W σ x3 hI hM hK hc h1 h2 v1 v4
    obtain ⟨c1, c2⟩ := hc
    have him : i ∈ hl0 t := by rw [← hdn]; exact List.mem_append_right _ List.mem_cons_self
    have htS : t ∈ SL := hI.2.2.2.2.2.1 t (List.mem_append_left _ (List.mem_singleton.mpr rfl))
    obtain ⟨t1, t2, t3, t4, t5⟩ := hI.2.2.1 t htS
    obtain ⟨b3, b4, b5, b6⟩ := hB.1 t t1
    obtain ⟨g1, g2, g3⟩ := b6 i him
    have hHH0 : H0 ≤ H := by rw [hI.2.2.2.2.2.2.2.2.2.2.2.2.2.1]; omega
    have r59 := hM.2.1.2.2.2.1 i (by omega)
    have hvi : hv i = hv0 i := hI.2.2.2.2.2.2.2.2.2.2.2.1 i g1
    have b59 := hM.2.2.2.2.1.le (k := 59) (M := 212992) (by decide)
    have hle59 := hM.2.1.2.1
    rw [e86_92 (d + 3), c1, i32_raw, c2_eq (by omega) (by omega) (by omega) (by omega), c_f (by omega), c_in (by omega) (by omega) (by omega), i32_ixn (by omega), r59.1, hvi]
    obtain ⟨s1, N1, G1, im1, SL1, W1, v, k1, I1, M1, cv, vl, nl, ext, gO, ms, hWW, fr1⟩ := copy_c (L := L) (xs := xs) hB h0 hb hS hS2 hI hM g2 g3 d jv jv
    have eim : im1 t = im t := (ext t htS).2
    rw [bI_ok k1, ← eim]
    have htS1 := (ext t htS).1
    have imN1 := (I1.2.2.1 t htS1)
    have hN1 := M1.1.lt M1.2.2.2.2.1
    have rnew : ∀ x, N0 ≤ x → r x = x := hB.2.2.2
    have rim : r (im1 t) = im1 t := rnew _ imN1.2.2.1
    have hHb : H < 212992 := by
      have : PL.length ≤ b2 := hB.2.2.1 PL hI.2.2.2.2.2.2.2.2.2.2.2.2.2.2.1 (fun p hp => by
        obtain ⟨y1, y1', y2, y3, y4, _⟩ := hI.2.2.2.2.2.2.2.2.2.2.2.2.2.2.2 p hp
        exact ⟨y2, y3, y4⟩)
      have := hI.2.2.2.2.2.2.2.2.2.2.2.2.2.1
      omega
    have K1' : cpK G0 r N1 im1 SL1 t va vb s1 := by
      intro hk
      obtain ⟨z1, z2, z3, z4⟩ := hK hk
      obtain ⟨_, f53, f54, _, _⟩ := fr1.2 (im t) t4
      rw [eim]
      exact ⟨by rw [f53]; exact z1, by omega, z3.mono ext, fun h3 => by rw [f54]; exact ⟨(z4 h3).1, by have := (z4 h3).2.1; omega, (z4 h3).2.2.mono ext⟩⟩
    have ch1 : chL s1 l (rd σ 60 i) := c2.congr (fun j _ => fr1.1.rd (j := 60) rfl j)
    have D1 : ∀ i', i' ∈ done → G0.1 (r (hv0 i')) ≠ 1 → ∃ j, j ∈ hl (im1 t) ∧ cov G0 r SL1 im1 (hv0 i') (hv j) := fun i' q1 q2 => by
      obtain ⟨j, q3, q4⟩ := h1 i' q1 q2
      exact ⟨j, by rw [eim]; exact q3, q4.mono ext⟩
    have D2 : ∀ j, j ∈ hl (im1 t) → ∃ i', i' ∈ hl0 t ∧ G0.1 (r (hv0 i')) ≠ 1 ∧ cov G0 r SL1 im1 (hv0 i') (hv j) := fun j q1 => by
      rw [eim] at q1
      obtain ⟨i', q2, q3, q4⟩ := h2 j q1
      exact ⟨i', q2, q3, q4.mono ext⟩
    have rv : r v = v := by
      rcases cv with q | q
      · rw [q.2]; exact (hB.1 _ g3).2.1
      · rw [q.2.2]; exact rnew _ (I1.2.2.1 _ q.2.1).2.2.1
    have hvj : ∀ j, j ∈ hl (im1 t) → r (hv j) = hv j := fun j q1 => by
      obtain ⟨i', q2, q3, q4⟩ := D2 j q1
      rcases q4 with q | q
      · exact absurd q.1 q3
      · rw [q.2.2]; exact rnew _ (I1.2.2.1 _ q.2.1).2.2.1
    have dn2 : (done ++ [i]) ++ l = hl0 t := by rw [List.append_assoc]; exact hdn
    have base60 : ∀ s : tvS, rd s 60 i = rd σ 60 i → ln s 60 = ln s 59 → H ≤ ln s 59 → ln s 59 ≤ 1000000 → ∀ (y : Int32) (u1 : Value), cond (pv_in (i32 i) (ln s 60)) (rn L xs (d + 3 + 1) 86 92 [.ref 50, u1, .int (i32 (im1 t)), .int (rd s 60 i), .int y] [] s) none = rn L xs (d + 4) 86 92 [.ref 50, u1, .int (i32 (im1 t)), .int (rd σ 60 i), .int y] [] s := by
      intro s e1 e2 e3 e4 y u1
      rw [c_in (by omega) (by omega) (by omega), e1]
    rcases hold_c (L := L) (xs := xs) (x := im1 t) (u := v) M1.1 M1.2.1 M1.2.2.2.2.1 hHb (by omega) vl d jv with ⟨s2, k2, T2, H2, R2, w2, q2⟩ | ⟨s2, k2, T2, H2, R2, w2, q2, q3⟩
    · -- nothing new
      have b59' := R2.le (k := 59) (M := 212992) (by decide)
      rw [bI_ok k2, base60 s2 (by rw [w2.rd (j := 60) rfl, fr1.1.rd (j := 60) rfl]) H2.2.2.1 H2.2.1 (by omega)]
      have M2 : cpS K1 K2 N0 S r N1 G1 hl hv H im1 SL1 [t] W1 s2 := ⟨T2, H2, M1.2.2.1.T w2 rfl rfl, ⟨by rw [w2.2 14 rfl]; exact M1.2.2.2.1.1, by rw [(w2.1.2.2 61 rfl).1]; exact M1.2.2.2.1.2.1, M1.2.2.2.1.2.2.congr (fun i _ => w2.rd (j := 61) rfl i)⟩, R2, fun s => by rw [w2.rd (j := 57) rfl]; exact M1.2.2.2.2.2.1 s, fun s hs => by rw [w2.rd (j := 58) rfl]; exact M1.2.2.2.2.2.2 s hs⟩
      have K2' : cpK G0 r N1 im1 SL1 t va vb s2 := fun hk => by
        rw [w2.rd (j := 53) rfl, w2.rd (j := 54) rfl]; exact K1' hk
      have D1' : ∀ i', i' ∈ done ++ [i] → G0.1 (r (hv0 i')) ≠ 1 → ∃ j, j ∈ hl (im1 t) ∧ cov G0 r SL1 im1 (hv0 i') (hv j) := fun i' q4 q5 => by
        rcases List.mem_append.mp q4 with q6 | q6
        · exact D1 i' q6 q5
        · rw [List.mem_singleton.mp q6] at q5 ⊢
          have cv2 : r (hv0 i) ∈ SL1 ∧ v = im1 (r (hv0 i)) := by
            rcases cv with q | q
            · exact absurd q.1 q5
            · exact q.2
          rw [rim, rv] at q2
          rcases q2 with q7 | ⟨j, q7, q8⟩
          · exfalso
            have y := (I1.2.2.1 _ cv2.1)
            have y5 := y.2.2.2.2
            rw [cv2.2, y5] at q7; exact q5 q7
          · refine ⟨j, q7, .inr ⟨q5, cv2.1, ?_⟩⟩
            rw [← cv2.2, ← q8, hvj j q7]
      obtain ⟨σ', N', G', hl', hv', H', im', SL', PL', W', z1, z3, z4, j1, j2, j3, j4, j5, j6, j7, j8, j9, j10⟩ := ih (done ++ [i]) dn2 I1 M2 K2' (ch1.congr (fun j _ => w2.rd (j := 60) rfl j)) D1' D2 (dj (dj v1)) (.int (i32 v))
      refine ⟨σ', N', G', hl', hv', H', im', SL', PL', W', z1, z3, z4, j1, j2, j3, j4, j5, j6, by omega, by omega, fun s hs => ⟨(j9 s (ext s hs).1).1, by rw [(j9 s (ext s hs).1).2, (ext s hs).2]⟩, (fr1.1.sub rfl rfl rfl).trans ((w2.sub rfl rfl rfl).trans j10)⟩
    · -- one more is held
      have b59' := R2.le (k := 59) (M := 212992) (by decide)
      have tN1 : t < N1 := by omega
      have tne : t ≠ im1 t := by have := imN1.2.2.1; omega
      rw [rim, rv] at H2 q3
      rw [rv] at q2
      have hlt : hl t = hl0 t := hI.2.2.2.2.2.2.2.2.2.2.1 t b3
      have e60 : rd s2 60 i = rd σ 60 i := by
        have c1 := (H2.2.2.2.2.1 t tN1 b4).1
        rw [show upL hl (im1 t) (hl (im1 t) ++ [H]) t = hl t from if_neg tne] at c1
        have c2 := (M1.2.1.2.2.2.2.1 t tN1 b4).1
        rw [(c1.same c2).2 i (by rw [hlt]; exact him), fr1.1.rd (j := 60) rfl]
      rw [bI_ok k2, base60 s2 e60 H2.2.2.1 (by have := H2.2.1; omega) (by omega)]
      have kint : G0.1 (r (hv0 i)) ≠ 1 := by
        intro q
        rcases cv with q4 | q4
        · apply q2
          rw [q4.2, (I1.2.2.2.2.2.2.2.2.2.1 _ (hB.1 _ g3).1).1]; exact q
        · exact q4.1 q
      have jlt : ∀ s, s ∈ SL1 → ∀ j, j ∈ hl (im1 s) → j < H := fun s hs j hj => (M1.2.1.2.2.2.2.1 (im1 s) (I1.2.2.1 s hs).2.2.2.1 (rnew _ (I1.2.2.1 s hs).2.2.1)).2.2.1 j hj
      have q3' : ¬ ∃ j, j ∈ hl (im1 t) ∧ hv j = v := fun ⟨j, q4, q5⟩ => q3 ⟨j, q4, by rw [hvj j q4]; exact q5⟩
      have I2 := I1.hold jlt him kint cv q3' (l' := hl (im1 t) ++ [H]) (fun j => by rw [List.mem_append, List.mem_singleton])
      have M2 : cpS K1 K2 N0 S r N1 G1 (upL hl (im1 t) (hl (im1 t) ++ [H])) (upN hv H v) (H + 1) im1 SL1 [t] W1 s2 := ⟨T2, H2, M1.2.2.1.T w2 rfl rfl, ⟨by rw [w2.2 14 rfl]; exact M1.2.2.2.1.1, by rw [(w2.1.2.2 61 rfl).1]; exact M1.2.2.2.1.2.1, M1.2.2.2.1.2.2.congr (fun i _ => w2.rd (j := 61) rfl i)⟩, R2, fun s => by rw [w2.rd (j := 57) rfl]; exact M1.2.2.2.2.2.1 s, fun s hs => by rw [w2.rd (j := 58) rfl]; exact M1.2.2.2.2.2.2 s hs⟩
      have K2' : cpK G0 r N1 im1 SL1 t va vb s2 := fun hk => by
        rw [w2.rd (j := 53) rfl, w2.rd (j := 54) rfl]; exact K1' hk
      have lE : upL hl (im1 t) (hl (im1 t) ++ [H]) (im1 t) = hl (im1 t) ++ [H] := if_pos rfl
      have vE : upN hv H v H = v := if_pos rfl
      have vO : ∀ j, j ∈ hl (im1 t) → upN hv H v j = hv j := fun j hj => if_neg (by have := jlt t htS1 j hj; omega)
      have D1' : ∀ i', i' ∈ done ++ [i] → G0.1 (r (hv0 i')) ≠ 1 → ∃ j, j ∈ upL hl (im1 t) (hl (im1 t) ++ [H]) (im1 t) ∧ cov G0 r SL1 im1 (hv0 i') (upN hv H v j) := fun i' q4 q5 => by
        rw [lE]
        rcases List.mem_append.mp q4 with q6 | q6
        · obtain ⟨j, q7, q8⟩ := D1 i' q6 q5
          exact ⟨j, List.mem_append_left _ q7, by rw [vO j q7]; exact q8⟩
        · rw [List.mem_singleton.mp q6]
          exact ⟨H, List.mem_append_right _ (List.mem_singleton.mpr rfl), by rw [vE]; exact cv⟩
      have D2' : ∀ j, j ∈ upL hl (im1 t) (hl (im1 t) ++ [H]) (im1 t) → ∃ i', i' ∈ hl0 t ∧ G0.1 (r (hv0 i')) ≠ 1 ∧ cov G0 r SL1 im1 (hv0 i') (upN hv H v j) := fun j q4 => by
        rw [lE] at q4
        rcases List.mem_append.mp q4 with q6 | q6
        · rw [vO j q6]; exact D2 j q6
        · rw [List.mem_singleton.mp q6, vE]; exact ⟨i, him, kint, cv⟩
      have ch2 : chL s2 l (rd σ 60 i) := by
        refine ch1.congr (fun j hj => ?_)
        have c1 := (H2.2.2.2.2.1 t tN1 b4).1
        rw [show upL hl (im1 t) (hl (im1 t) ++ [H]) t = hl t from if_neg tne] at c1
        have c2 := (M1.2.1.2.2.2.2.1 t tN1 b4).1
        exact (c1.same c2).2 j (by rw [hlt, ← hdn]; exact List.mem_append_right _ (List.mem_cons_of_mem _ hj))
      obtain ⟨σ', N', G', hl', hv', H', im', SL', PL', W', z1, z3, z4, j1, j2, j3, j4, j5, j6, j7, j8, j9, j10⟩ := ih (done ++ [i]) dn2 I2 M2 K2' ch2 D1' D2' (dj (dj v1)) (.int (i32 v))
      refine ⟨σ', N', G', hl', hv', H', im', SL', PL', W', z1, z3, z4, j1, j2, j3, j4, j5, j6, by omega, by omega, fun s hs => ⟨(j9 s (ext s hs).1).1, by rw [(j9 s (ext s hs).1).2, (ext s hs).2]⟩, (fr1.1.sub rfl rfl rfl).trans ((w2.sub rfl rfl rfl).trans j10)⟩
end CPA
