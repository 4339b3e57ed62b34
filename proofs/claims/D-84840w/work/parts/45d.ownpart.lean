/-! REGIONS, THE COMPONENT: owners, part by part -/
section OWNSD
variable {L : Nat} {xs : Nat → Int32} {σ σ' σ0 τ : tvS} {D : pgD} {m f : Nat}
theorem CT.ofR {K1 K2 N : Nat} {G : tG} {r : Nat → Nat} {hl : Nat → List Nat} {hv : Nat → Nat} {H S : Nat} {ML : List Nat} (h : RCH K1 K2 N G r hl hv H S ML σ) (hk : HK N G r hl) (hg : gP G r) (hn : ∀ t, N ≤ t → hl t = []) : CT K1 K2 N G r (hC hl hv) H S σ :=
  ⟨hl, hv, h.1.1, h.1.2.1, hk, ⟨h.2.1.1, fun x hx => let ⟨s, s1, s2, _⟩ := h.2.2.1 x hx; ⟨s, s1, s2⟩⟩, h.1.2.2, hg, hn, rfl⟩
theorem own_low {n hi : Nat} (hhi : hi ≤ n) (hn : n ≤ 32768) (h76 : n ≤ ln σ 76) (h76' : ln σ 76 ≤ 1000000) {ow : Nat → Int} (ho : ∀ i, i < n → rd σ 76 i = i32 (ow i) ∧ -2147483648 ≤ ow i ∧ ow i < 2147483648) (x1 x3 : Int32) (v2 v6 : Value) (d : Nat) : ∀ (j k : Nat), k + j = hi → ∃ k', k ≤ k' ∧ k' ≤ hi ∧ (∀ i, k ≤ i → i < k' → ow i ≠ -1) ∧ (k' < hi → ow k' = -1) ∧ rn L xs (d + 1) 170 72 [.ref 74, .int x1, v2, .int x3, .int (i32 (k : Int)), .int (i32 (hi : Int)), v6] [] σ = rn L xs (d + 1) 170 96 [.ref 74, .int x1, v2, .int x3, .int (i32 (k' : Int)), .int (i32 (hi : Int)), v6] [] σ := by
  intro j
  induction j with
  | zero =>
    intro k e
    refine ⟨k, Nat.le_refl _, by omega, fun i h1 h2 => by omega, fun h => by omega, ?_⟩
    rw [e170_72, c2_ge (by omega) (by omega) (by omega) (by omega), c_t (by omega)]
  | succ j ih =>
    intro k e
    obtain ⟨o1, o2, o3⟩ := ho k (by omega)
    by_cases c : ow k = -1
    · refine ⟨k, Nat.le_refl _, by omega, fun i h1 h2 => by omega, fun _ => c, ?_⟩
      rw [e170_72, c2_ge (by omega) (by omega) (by omega) (by omega), c_f (by omega), c_in (by omega) (by omega) (by omega), i32_ixn (by omega), o1, i32_raw, c2_eq (by omega) (by omega) (by omega) (by omega), c_t (by omega)]
    · obtain ⟨k', a1, a2, a3, a4, a5⟩ := ih (k + 1) (by omega)
      refine ⟨k', by omega, a2, fun i h1 h2 => ?_, a4, ?_⟩
      · by_cases ei : i = k
        · rw [ei]; exact c
        · exact a3 i (by omega) h2
      · rw [e170_72, c2_ge (by omega) (by omega) (by omega) (by omega), c_f (by omega), c_in (by omega) (by omega) (by omega), i32_ixn (by omega), o1, i32_raw, c2_eq (by omega) (by omega) (by omega) (by omega), c_f (by omega), i32_up]
        exact a5
/-- the state in which owners are found -/
def OWI (K1 K2 : Nat) (D : pgD) (f N : Nat) (C : tG) (c : Nat → Nat) (h : Nat → Nat → Prop) (H S n : Nat) (pe fr : Nat → Nat) (P : Nat) (ow : Nat → Int) (σ0 σ : tvS) : Prop :=
  CT K1 K2 N C c h H S σ ∧ QP n pe σ ∧ (∀ i, i < n → rd σ 76 i = i32 (ow i) ∧ -2147483648 ≤ ow i ∧ ow i < 2147483648) ∧ (∀ k, fr (D.bP f) ≤ k → k < n → OWp D f fr (fun p => rBx D f C c h σ0 p (pe k)) P k (ow k)) ∧ frT FOW [61] [12, 14, 15] σ0 σ
theorem own_part {K1 K2 N : Nat} {C : tG} {c : Nat → Nat} {h : Nat → Nat → Prop} {H S n : Nat} {pe fr : Nat → Nat} {p : Nat} {ow : Nat → Int} (hF : PGF D m) (hf : f ≤ D.fc) (hR : PGR D σ0 τ) (hsc : ∀ p, D.bP f ≤ p → p < D.bP (f + 1) → chC σ0 (D.sl p) (rd σ0 28 p)) (hty : TYc D f N σ0) (hfr : FRm D f n fr σ0) (hpe : ∀ i, i < n → pe i < N) (hS : S + 2 < 2147483648) (hp1 : D.bP f ≤ p) (hp2 : p < D.bP (f + 1)) (hI : OWI K1 K2 D f N C c h H S n pe fr p ow σ0 σ) (d : Nat) (v2 v4 v5 v6 : Value) :
    ∃ (σ' : tvS) (S' : Nat) (ow' : Nat → Int) (w2 w4 w5 w6 : Value), rn L xs (d + 4) 170 33 [.ref 74, .int (i32 (f : Int)), v2, .int (i32 (p : Int)), v4, v5, v6] [] σ = rn L xs (d + 4) 170 33 [.ref 74, .int (i32 (f : Int)), w2, .int (i32 ((p + 1 : Nat) : Int)), w4, w5, w6] [] σ' ∧ S ≤ S' ∧ S' ≤ S + 2 ∧ OWI K1 K2 D f N C c h H S' n pe fr (p + 1) ow' σ0 σ' ∧ (∀ i, i < fr (D.bP f) → ow' i = ow i) := by
  obtain ⟨hC0, hQ, ho, hO, hfm⟩ := hI
  obtain ⟨hl, hv, t1, t2, t3, t4, t5, t6, t7, t8⟩ := id hC0
  have hb4 := hF.1
  have hbl := (hF.le (D.fc + 1 - (f + 1)) (f + 1) (by omega))
  have hPf := hF.2.2 f hf
  have hPp := hPf.2.2.1 p hp1 hp2
  have hRp := hR.2 p (by omega)
  have hff := hR.1 f hf
  obtain ⟨f1, f2, f3, f4⟩ := hfr
  obtain ⟨y1, y2, y3, y4⟩ := hty
  have hst1 := hPp.1.2.2.1
  have hst2 := hPp.1.2.2.2
  have lo1 := f2 (D.bP f) (D.st p) (Nat.le_refl _) hst1 (by omega)
  have lo2 := f2 (D.st p) (p + 1) hst1 (by omega) (by omega)
  have hi1 := f2 (p + 1) (D.bP (f + 1)) (by omega) (by omega) (Nat.le_refl _)
  rw [f3] at hi1
  have b75 := t5.le (k := 75) (M := 32768) (by decide)
  have q2 := hQ.2.1
  have q3 := hQ.2.2.1
  obtain ⟨k', a1, a2, a3, a4, a5⟩ := own_low (L := L) (xs := xs) (hhi := hi1) f4 (by omega) (by omega) ho (i32 (f : Int)) (i32 (p : Int)) v2 v6 (d + 3) (fr (p + 1) - fr (D.st p)) (fr (D.st p)) (by omega)
  have e33 : rn L xs (d + 4) 170 33 [.ref 74, .int (i32 (f : Int)), v2, .int (i32 (p : Int)), v4, v5, v6] [] σ = rn L xs (d + 4) 170 96 [.ref 74, .int (i32 (f : Int)), v2, .int (i32 (p : Int)), .int (i32 (k' : Int)), .int (i32 (fr (p + 1) : Int)), v6] [] σ := by
    rw [e170_33 (d + 3), c_in (by omega) (by omega) (by omega), i32_ixn (by omega), hfm.rd (j := 47) rfl, hff.1.2.2.2.1, c2_ge (by omega) (by omega) (by omega) (by omega), c_f (by omega), c_in (by omega) (by omega) (by omega), i32_ixn (by omega), hfm.rd (j := 26) rfl, hRp.1.2.2.2.2.1, c_in (by omega) (by omega) (by omega), i32_up, c_in (by omega) (by omega) (by omega), i32_ixn (by omega), i32_ixn (by omega), hfm.rd (j := 77) rfl, hfm.rd (j := 77) rfl, f1 _ hst1 (by omega), f1 (p + 1) (by omega) (by omega)]
    exact a5
  have fwd : ∀ k, fr (D.bP f) ≤ k → k < n → ¬ (fr (D.st p) ≤ k ∧ k < fr (p + 1) ∧ ow k = -1) → OWp D f fr (fun p => rBx D f C c h σ0 p (pe k)) (p + 1) k (ow k) := fun k h1 h2 hn => by
    rcases hO k h1 h2 with ⟨g1, g2⟩ | ⟨p', g1, g2⟩
    · refine .inl ⟨g1, fun p'' e1 e2 e3 e4 => ?_⟩
      by_cases ep : p'' = p
      · rw [ep] at e3 e4
        exact absurd ⟨e3, e4, g1⟩ hn
      · exact g2 p'' (by omega) e2 e3 e4
    · exact .inr ⟨p', by omega, g2⟩
  by_cases hce : k' = fr (p + 1)
  · -- nothing is left
    refine ⟨σ, S, ow, jk v2, .int (i32 (k' : Int)), .int (i32 (fr (p + 1) : Int)), v6, ?_, Nat.le_refl _, by omega, ⟨hC0, hQ, ho, fun k h1 h2 => fwd k h1 h2 (fun q => ?_), hfm⟩, fun _ _ => rfl⟩
    · rw [e33, e170_96, c2_ne (by omega) (by omega) (by omega) (by omega), c_f (by omega), e170_250, i32_up]
    · exact a3 k q.1 (by omega) q.2.2
  · have hcl := t6.1
    obtain ⟨s1, b1, b2, b3⟩ := begin_c (L := L) (xs := xs) t1 t2 t5 t4 hS (d + 2)
    have w1 : frT FOW [61] [12, 14, 15] σ s1 := b3.sub rfl rfl rfl
    have e153 : rn L xs (d + 3) 153 0 [.ref 65, .int (i32 (p : Int))] [] s1 = some (.inl (some (.int (i32 (oT σ0 p : Int)))), s1) := by
      rw [e153_0, c_in (by omega) (by omega) (by omega), i32_ixn (by omega), w1.rd (j := 66) rfl, hfm.rd (j := 66) rfl, (y1 p hp1 hp2).1]
    obtain ⟨s2, ML2, r1, r2, r3⟩ := reach_c (L := L) (xs := xs) hcl b2 (y1 p hp1 hp2).2 d jv jv
    have w2 : frT [52, 57, 61] [61] [12, 14, 15] s1 s2 := r3.sub rfl rfl rfl
    have hch : chC s1 (D.sl p) (rd s2 28 p) := by
      have ech : ∀ (l : List Nat) (x : Int32), chC σ0 l x → chC s1 l x := by
        intro l
        induction l with
        | nil => intro x hx; exact hx
        | cons v l ih =>
          intro x hx
          obtain ⟨u1, u2, u3, u4⟩ := hx
          refine ⟨u1, u2, by rw [w1.rd (j := 33) rfl, hfm.rd (j := 33) rfl]; exact u3, ?_⟩
          have := ih _ u4
          rw [w1.rd (j := 32) rfl, hfm.rd (j := 32) rfl]; exact this
      rw [w2.rd (j := 28) rfl, w1.rd (j := 28) rfl, hfm.rd (j := 28) rfl]
      exact ech _ _ (hsc p hp1 hp2)
    have ev : ∀ v, vT s1 v = vT σ0 v := fun v => by unfold vT; rw [w1.rd (j := 67) rfl, hfm.rd (j := 67) rfl]
    obtain ⟨s3, ML3, u2, z1, z2, z3⟩ := scope_reach (L := L) (xs := xs) (σ0 := s1) hcl (i32 (f : Int)) (i32 (p : Int)) (i32 (k' : Int)) (i32 (fr (p + 1) : Int)) d (D.sl p) s2 _ ML2 (rd s2 28 p) (dj (dj (dj v2))) r2 w2 hch (fun v hv => by
      rw [ev v, w1.rd (j := 67) rfl, hfm.rd (j := 67) rfl]
      exact y2 p v hp1 hp2 hv)
    have w3 : frT FOW [61] [12, 14, 15] σ s3 := w1.trans (z3.sub rfl rfl rfl)
    have e157 : rn L xs (d + 3) 157 0 [.ref 65, .int (i32 (f : Int))] [] s3 = some (.inl (some (.int (i32 (rT σ0 f : Int)))), s3) := by
      rw [e157_0, c_in (by omega) (by omega) (by omega), i32_ixn (by omega), w3.rd (j := 68) rfl, hfm.rd (j := 68) rfl, y3]
    obtain ⟨s4, ML4, r4, r5, r6⟩ := reach_c (L := L) (xs := xs) hcl z2 y4 d jv jv
    have w4 : frT [52, 57, 61] [61] [12, 14, 15] σ s4 := (b3.sub rfl rfl rfl).trans (z3.trans (r6.sub rfl rfl rfl))
    have hQ4 : QP n pe s4 := ⟨by rw [w4.rd (j := 74) rfl]; exact hQ.1, by rw [(w4.1.2.2 75 rfl).1]; exact hQ.2.1, by rw [(w4.1.2.2 76 rfl).1, (w4.1.2.2 75 rfl).1]; exact hQ.2.2.1, fun i hi => by rw [w4.rd (j := 75) rfl]; exact hQ.2.2.2 i hi⟩
    obtain ⟨s5, x2, x4, ow', i1, i2, i3, i4, i5⟩ := own_set (L := L) (xs := xs) (p := p) (hi := fr (p + 1)) (by omega) hi1 f4 (i32 (f : Int)) (d + 1) (fr (p + 1) - k') k' s4 ow (dj (dj u2)) (.int (i32 (k' : Int))) (by omega) r5 hQ4 hpe (fun i hi => by rw [w4.rd (j := 76) rfl]; exact ho i hi)
    have w5 : frT FOW [61] [12, 14, 15] σ0 s5 := hfm.trans ((w4.sub rfl rfl rfl).trans (i5.sub rfl rfl rfl))
    have hQ5 : QP n pe s5 := ⟨by rw [i5.rd (j := 74) rfl]; exact hQ4.1, by rw [(i5.1.2.2 75 rfl).1]; exact hQ4.2.1, by rw [(i5.1.2.2 76 rfl).1, (i5.1.2.2 75 rfl).1]; exact hQ4.2.2.1, fun i hi => by rw [i5.rd (j := 75) rfl]; exact hQ4.2.2.2 i hi⟩
    have hkk : ∀ t u, hC hl hv (c t) u → 2 ≤ C.1 (c t) := fun t u hu => by
      obtain ⟨i, hi, _⟩ := hu
      have hct : c t < N := by
        apply Classical.byContradiction
        intro q
        rw [t7 _ (by omega)] at hi; cases hi
      have := t3 (c t) hct (hcl t) (fun q => by rw [q] at hi; cases hi)
      omega
    have hiff : ∀ y, c y ∈ ML4 ↔ rBx D f C c h σ0 p y := fun y => by
      rw [r5.iff hkk hcl y]
      unfold rBx
      rw [t8]
      refine ⟨fun q => ⟨q.1.mono (fun b hb => ?_), q.2⟩, fun q => ⟨q.1.mono (fun b hb => ?_), q.2⟩⟩
      · rcases hb with ((hb | hb) | ⟨v, v1, v2⟩) | hb
        · exact hb.elim
        · exact .inl hb
        · exact .inr (.inl ⟨v, v1, v2.trans (ev v)⟩)
        · exact .inr (.inr hb)
      · rcases hb with hb | ⟨v, v1, v2⟩ | hb
        · exact .inl (.inl (.inr hb))
        · exact .inl (.inr ⟨v, v1, v2.trans (ev v).symm⟩)
        · exact .inr hb
    refine ⟨s5, S + 2, ow', jk x2, x4, .int (i32 (fr (p + 1) : Int)), .int (i32 (fr (p + 1) : Int)), ?_, by omega, Nat.le_refl _, ⟨?_, hQ5, i3, fun k h1 h2 => ?_, w5⟩, fun i hi => ?_⟩
    · rw [e33, e170_96 (d + 3), c2_ne (by omega) (by omega) (by omega) (by omega), c_t (by omega), e170_106 (d + 3), bV_ok b1, bI_ok e153]
      have r1' : rn L xs (d + 3) 99 0 [.ref 50, .int (i32 (oT σ0 p : Int)), .int 1000000, jv, jv] [] s1 = some (.inl none, s2) := r1
      have r4' : rn L xs (d + 3) 99 0 [.ref 50, .int (i32 (rT σ0 f : Int)), .int 1000000, jv, jv] [] s3 = some (.inl none, s4) := r4
      rw [bV_ok r1', c_in (by omega) (by omega) (by omega), i32_ixn (by omega), z1, e170_180 (d + 3), bI_ok e157, bV_ok r4']
      have i1' : rn L xs (d + 4) 170 201 [.ref 74, .int (i32 (f : Int)), (dj (dj u2)), .int (i32 (p : Int)), .int (i32 (k' : Int)), .int (i32 (fr (p + 1) : Int)), .int (i32 (k' : Int))] [] s4 = rn L xs (d + 4) 170 250 [.ref 74, .int (i32 (f : Int)), x2, .int (i32 (p : Int)), x4, .int (i32 (fr (p + 1) : Int)), .int (i32 (fr (p + 1) : Int))] [] s5 := i1
      rw [i1', e170_250, i32_up]
    · have := CT.ofR i2.1 t3 t6 t7
      rw [t8]; exact this
    · have hk := i4 k (by omega)
      by_cases q : k' ≤ k ∧ k < fr (p + 1) ∧ ow k = -1 ∧ c (pe k) ∉ ML4
      · rw [if_pos q] at hk
        rw [hk]
        rcases hO k h1 h2 with ⟨g1, g2⟩ | ⟨p', g1, g2, g3, _⟩
        · exact .inr ⟨p, by omega, hp1, rfl, by omega, q.2.1, fun k2 => q.2.2.2 ((hiff _).mpr k2), fun p' e1 e2 e3 e4 => g2 p' e1 e2 e3 e4⟩
        · have := q.2.2.1; omega
      · rw [if_neg q] at hk
        rw [hk]
        by_cases q2 : fr (D.st p) ≤ k ∧ k < fr (p + 1) ∧ ow k = -1
        · rcases hO k h1 h2 with ⟨g1, g2⟩ | ⟨p', g1, g2, g3, _⟩
          · refine .inl ⟨g1, fun p'' e1 e2 e3 e4 => ?_⟩
            by_cases ep : p'' = p
            · rw [ep]
              have hkk' : k' ≤ k := by
                apply Classical.byContradiction
                intro hlt
                exact a3 k q2.1 (by omega) q2.2.2
              refine (hiff _).mp (Classical.byContradiction (fun hnm => q ⟨hkk', q2.2.1, q2.2.2, hnm⟩))
            · exact g2 p'' (by omega) e2 e3 e4
          · have := q2.2.2; omega
        · exact fwd k h1 h2 q2
    · have hk := i4 i (by omega)
      rw [if_neg (fun q => by omega)] at hk
      exact hk
end OWNSD
