/-! REGIONS, THE COMPONENT: owners, all parts; an arrow holds one more -/
section OWNSE
variable {L : Nat} {xs : Nat → Int32} {σ σ' σ0 τ : tvS} {D : pgD} {m f : Nat}
theorem own_clear {n : Nat} {pe : Nat → Nat} (hn : n ≤ 32768) (x1 : Int32) (v4 v5 v6 : Value) (d : Nat) : ∀ (j k : Nat) (σ : tvS) (v2 : Value), k + j = n → QP n pe σ → ln σ 75 ≤ 1000000 →
    ∃ (σ' : tvS) (w2 : Value), rn L xs (d + 1) 170 2 [.ref 74, .int x1, v2, .int (i32 (k : Int)), v4, v5, v6] [] σ = rn L xs (d + 1) 170 23 [.ref 74, .int x1, w2, .int (i32 (n : Int)), v4, v5, v6] [] σ' ∧ (∀ i, k ≤ i → i < n → rd σ' 76 i = i32 (-1)) ∧ (∀ i, i < k → rd σ' 76 i = rd σ 76 i) ∧ frT [76] [] [] σ σ' ∧ rm σ' = rm σ ∧ (∀ j, ln σ' j = ln σ j) := by
  intro j
  induction j with
  | zero =>
    intro k σ v2 e hQ hl
    have e : k = n := by omega
    subst e
    refine ⟨σ, v2, ?_, fun i h1 h2 => by omega, fun _ _ => rfl, frT.refl, rfl, fun _ => rfl⟩
    rw [e170_2, hQ.1, c2_ge (by omega) (by omega) (by omega) (by omega), c_t (by omega)]
  | succ j ih =>
    intro k σ v2 e hQ hl
    have q2 := hQ.2.1
    have q3 := hQ.2.2.1
    have w : frT [76] [] [] σ (wr σ 76 k (i32 (-1))) := frT_wr rfl (by decide)
    obtain ⟨σ', w2, y1, y2, y3, y4, y5, y6⟩ := ih (k + 1) (wr σ 76 k (i32 (-1))) (jk v2) (by omega) hQ hl
    refine ⟨σ', w2, ?_, fun i h1 h2 => ?_, fun i hi => ?_, w.trans y4, y5, y6⟩
    · rw [e170_2, hQ.1, c2_ge (by omega) (by omega) (by omega) (by omega), c_f (by omega), c_in (by omega) (by omega) (by omega), i32_ixn (by omega), i32_up, i32_raw]
      exact y1
    · by_cases ei : i = k
      · rw [y3 i (by omega), ei, wr_self]
      · exact y2 i (by omega) h2
    · rw [y3 i (by omega), wr_nei (by omega)]
theorem owns_parts {K1 K2 N : Nat} {C : tG} {c : Nat → Nat} {h : Nat → Nat → Prop} {H n : Nat} {pe fr : Nat → Nat} (hF : PGF D m) (hf : f ≤ D.fc) (hR : PGR D σ0 τ) (hsc : ∀ p, D.bP f ≤ p → p < D.bP (f + 1) → chC σ0 (D.sl p) (rd σ0 28 p)) (hty : TYc D f N σ0) (hfr : FRm D f n fr σ0) (hpe : ∀ i, i < n → pe i < N) (d : Nat) : ∀ (j p S : Nat) (σ : tvS) (ow : Nat → Int) (v2 v4 v5 v6 : Value), p + j = D.bP (f + 1) → D.bP f ≤ p → S + 2 * j < 2147483648 → OWI K1 K2 D f N C c h H S n pe fr p ow σ0 σ →
    ∃ (σ' : tvS) (S' : Nat) (ow' : Nat → Int), rn L xs (d + 4) 170 33 [.ref 74, .int (i32 (f : Int)), v2, .int (i32 (p : Int)), v4, v5, v6] [] σ = some (.inl none, σ') ∧ S ≤ S' ∧ S' ≤ S + 2 * j ∧ OWI K1 K2 D f N C c h H S' n pe fr (D.bP (f + 1)) ow' σ0 σ' := by
  have hb4 := hF.1
  have hbl := (hF.le (D.fc + 1 - (f + 1)) (f + 1) (by omega))
  intro j
  induction j with
  | zero =>
    intro p S σ ow v2 v4 v5 v6 e hp hS hI
    have e : p = D.bP (f + 1) := by omega
    subst e
    refine ⟨σ, S, ow, ?_, Nat.le_refl _, by omega, hI⟩
    rw [e170_33, c_in (by omega) (by omega) (by omega), i32_ixn (by omega), hI.2.2.2.2.rd (j := 47) rfl, (hR.1 f hf).1.2.2.2.1, c2_ge (by omega) (by omega) (by omega) (by omega), c_t (by omega), e170_256]
  | succ j ih =>
    intro p S σ ow v2 v4 v5 v6 e hp hS hI
    obtain ⟨s1, S1, ow1, w2, w4, w5, w6, a1, a2, a3, a4, _⟩ := own_part (L := L) (xs := xs) hF hf hR hsc hty hfr hpe (by omega) hp (by omega) hI d v2 v4 v5 v6
    obtain ⟨σ', S', ow', b1, b2, b3, b4⟩ := ih (p + 1) S1 s1 ow1 w2 w4 w5 w6 (by omega) (by omega) (by omega) a4
    exact ⟨σ', S', ow', a1.trans b1, by omega, by omega, b4⟩
/-- all owners -/
theorem owns_c {K1 K2 N : Nat} {C : tG} {c : Nat → Nat} {h : Nat → Nat → Prop} {H S n : Nat} {pe fr : Nat → Nat} (hF : PGF D m) (hf : f ≤ D.fc) (hR : PGR D σ0 τ) (hsc : ∀ p, D.bP f ≤ p → p < D.bP (f + 1) → chC σ0 (D.sl p) (rd σ0 28 p)) (hty : TYc D f N σ0) (hfr : FRm D f n fr σ0) (hpe : ∀ i, i < n → pe i < N) (hS : S + 2 * (D.bP (f + 1) - D.bP f) < 2147483648) (hC : CT K1 K2 N C c h H S σ) (hQ : QP n pe σ) (hfm : frT (55 :: 56 :: 59 :: 60 :: FOW) [59, 60, 61] [11, 12, 14, 15] σ0 σ) (ho : ∀ i, i < fr (D.bP f) → ∃ o : Int, rd σ 76 i = i32 o ∧ -2147483648 ≤ o ∧ o < 2147483648) (d : Nat) (v3 v4 v5 v6 : Value) :
    ∃ (σ' : tvS) (S' : Nat) (ow' : Nat → Int), rn L xs (d + 4) 170 0 [.ref 74, .int (i32 (f : Int)), .int (i32 (fr (D.bP f) : Int)), v3, v4, v5, v6] [] σ = some (.inl none, σ') ∧ S ≤ S' ∧ S' ≤ S + 2 * (D.bP (f + 1) - D.bP f) ∧ CT K1 K2 N C c h H S' σ' ∧ QP n pe σ' ∧ (∀ i, i < n → rd σ' 76 i = i32 (ow' i) ∧ -2147483648 ≤ ow' i ∧ ow' i < 2147483648) ∧ (∀ k, fr (D.bP f) ≤ k → k < n → OWp D f fr (fun p => rBx D f C c h σ0 p (pe k)) (D.bP (f + 1)) k (ow' k)) ∧ frT FOW [61] [12, 14, 15] σ σ' := by
  have hb4 := hF.1
  have hbl := (hF.le (D.fc + 1 - (f + 1)) (f + 1) (by omega))
  have hPf := hF.2.2 f hf
  obtain ⟨f1, f2, f3, f4⟩ := id hfr
  have lo := f2 (D.bP f) (D.bP (f + 1)) (Nat.le_refl _) (by have := hPf.1.1; omega) (Nat.le_refl _)
  rw [f3] at lo
  have hRm : ROOM K1 K2 σ := by
    obtain ⟨hl, hv, _, _, _, _, t5, _⟩ := hC; exact t5
  have b75 := hRm.le (k := 75) (M := 32768) (by decide)
  obtain ⟨s1, w2, a1, a2, a3, a4, a5, a6⟩ := own_clear (L := L) (xs := xs) (n := n) (pe := pe) f4 (i32 (f : Int)) v4 v5 v6 (d + 3) (n - fr (D.bP f)) (fr (D.bP f)) σ (.int (i32 (fr (D.bP f) : Int))) (by omega) hQ (by omega)
  -- as seen from here
  have e0 : ∀ j, inL (55 :: 56 :: 59 :: 60 :: FOW) j = false → j ≠ 50 → ∀ i, rd s1 j i = rd σ0 j i := fun j hj h50 i => by
    have hj' : inL [76] j = false := by
      cases q : inL [76] j with
      | false => rfl
      | true =>
        have e : j = 76 := by
          have q : (Nat.beq j 76 || false) = true := q
          rw [Bool.or_false] at q
          exact Nat.eq_of_beq_eq_true q
        rw [e] at hj; cases hj
    have hb : ∀ S : List Nat, inL S j = false → inL (50 :: S) j = false := fun S h => by
      show (Nat.beq j 50 || inL S j) = false
      rw [h, Bool.or_false]
      cases q : Nat.beq j 50 with
      | false => rfl
      | true => exact absurd (Nat.eq_of_beq_eq_true q) h50
    rw [a4.1.1 j (hb _ hj') i, hfm.1.1 j (hb _ hj) i]
  have hR1 : PGR D s1 τ := hR.to (fun j hj i => e0 j (inL_off rfl j hj) (fun e => by rw [e] at hj; cases hj) i) (fun _ _ _ => rfl)
  have eo : ∀ q, oT s1 q = oT σ0 q := fun q => by unfold oT; rw [e0 66 rfl (by decide)]
  have ev : ∀ q, vT s1 q = vT σ0 q := fun q => by unfold vT; rw [e0 67 rfl (by decide)]
  have er : rT s1 f = rT σ0 f := by unfold rT; rw [e0 68 rfl (by decide)]
  have hsc1 : ∀ p, D.bP f ≤ p → p < D.bP (f + 1) → chC s1 (D.sl p) (rd s1 28 p) := fun p h1 h2 => by
    have ech : ∀ (l : List Nat) (x : Int32), chC σ0 l x → chC s1 l x := by
      intro l
      induction l with
      | nil => intro x hx; exact hx
      | cons v l ih =>
        intro x hx
        obtain ⟨u1, u2, u3, u4⟩ := hx
        refine ⟨u1, u2, by rw [e0 33 rfl (by decide)]; exact u3, ?_⟩
        have := ih _ u4
        rw [e0 32 rfl (by decide)]; exact this
    rw [e0 28 rfl (by decide)]
    exact ech _ _ (hsc p h1 h2)
  have hty1 : TYc D f N s1 := by
    obtain ⟨y1, y2, y3⟩ := hty
    refine ⟨fun p h1 h2 => ?_, fun p v h1 h2 h3 => ?_, ?_⟩
    · rw [e0 66 rfl (by decide), eo]; exact y1 p h1 h2
    · rw [e0 67 rfl (by decide), ev]; exact y2 p v h1 h2 h3
    · rw [e0 68 rfl (by decide), er]; exact y3
  have hfr1 : FRm D f n fr s1 := ⟨fun p h1 h2 => by rw [e0 77 rfl (by decide)]; exact f1 p h1 h2, f2, f3, f4⟩
  have hC1 : CT K1 K2 N C c h H S s1 := by
    obtain ⟨hl, hv, t1, t2, t3, t4, t5, t6, t7, t8⟩ := hC
    refine ⟨hl, hv, t1.T a4 rfl ⟨rfl, rfl, rfl, rfl⟩ (fun _ _ _ => rfl), t2.T a4 rfl ⟨rfl, rfl, rfl, rfl⟩ ⟨rfl, rfl⟩, t3, t4.T a4 rfl rfl, ?_, t6, t7, t8⟩
    obtain ⟨r1, r2, r3⟩ := t5
    refine ⟨fun q hq => by rw [a6]; exact r1 q hq, ?_, ?_⟩
    · rw [a5]
      have : gcel s1 gro = gcel σ gro := by
        have : ∀ l : List (Nat × Nat), gcel s1 l = gcel σ l := by
          intro l
          induction l with
          | nil => rfl
          | cons q l ih => show q.2 / ln s1 q.1 + gcel s1 l = q.2 / ln σ q.1 + gcel σ l; rw [a6, ih]
        exact this gro
      rw [this]; exact r2
    · rw [a5]
      have : gsum s1 gro = gsum σ gro := by
        have : ∀ l : List (Nat × Nat), gsum s1 l = gsum σ l := by
          intro l
          induction l with
          | nil => rfl
          | cons q l ih => unfold gsum; rw [a6, ih]
        exact this gro
      rw [this]; exact r3
  have hQ1 : QP n pe s1 := ⟨by rw [a4.rd (j := 74) rfl]; exact hQ.1, by rw [a6]; exact hQ.2.1, by rw [a6, a6]; exact hQ.2.2.1, fun i hi => by rw [a4.rd (j := 75) rfl]; exact hQ.2.2.2 i hi⟩
  obtain ⟨ow0, how0⟩ : ∃ ow0 : Nat → Int, ∀ i, i < n → rd s1 76 i = i32 (ow0 i) ∧ -2147483648 ≤ ow0 i ∧ ow0 i < 2147483648 ∧ (fr (D.bP f) ≤ i → ow0 i = -1) := by
    have : ∀ i, ∃ o : Int, i < n → rd s1 76 i = i32 o ∧ -2147483648 ≤ o ∧ o < 2147483648 ∧ (fr (D.bP f) ≤ i → o = -1) := fun i => by
      by_cases hi : fr (D.bP f) ≤ i
      · exact ⟨-1, fun h => ⟨a2 i hi h, by decide, by decide, fun _ => rfl⟩⟩
      · obtain ⟨o, o1, o2, o3⟩ := ho i (by omega)
        exact ⟨o, fun _ => ⟨by rw [a3 i (by omega)]; exact o1, o2, o3, fun h => absurd h hi⟩⟩
    obtain ⟨g, hg⟩ := Classical.axiomOfChoice this
    exact ⟨g, hg⟩
  have hI1 : OWI K1 K2 D f N C c h H S n pe fr (D.bP f) ow0 s1 s1 := ⟨hC1, hQ1, fun i hi => ⟨(how0 i hi).1, (how0 i hi).2.1, (how0 i hi).2.2.1⟩, fun k h1 h2 => .inl ⟨(how0 k h2).2.2.2 h1, fun p h3 h4 => by omega⟩, frT.refl⟩
  obtain ⟨σ', S', ow', b1, b2, b3, ⟨b4, b5, b6, b7, b8⟩⟩ := owns_parts (L := L) (xs := xs) hF hf hR1 hsc1 hty1 hfr1 hpe d (D.bP (f + 1) - D.bP f) (D.bP f) S s1 ow0 (jk w2) v4 v5 v6 (by have := hPf.1.1; omega) (Nat.le_refl _) hS hI1
  refine ⟨σ', S', ow', ?_, b2, b3, b4, b5, b6, fun k h1 h2 => ?_, (a4.sub rfl rfl rfl).trans b8⟩
  · rw [e170_0 (d + 3), a1, e170_23 (d + 3), c_in (by omega) (by omega) (by omega), i32_ixn (by omega), e0 46 rfl (by decide), (hR.1 f hf).1.2.2.1]
    exact b1
  · have e : ∀ p, Bsh D f s1 p = Bsh D f σ0 p := fun p => by
      unfold Bsh; rw [eo, er]; simp only [ev]
    have := b7 k h1 h2
    unfold rBx at this ⊢
    simp only [e] at this
    exact this
/-- an arrow holds one more, or does already -/
theorem CT.hold {K1 K2 N : Nat} {C : tG} {c : Nat → Nat} {h : Nat → Nat → Prop} {H S x u : Nat} (hT : CT K1 K2 N C c h H S σ) (hH : H < 212992) (hx : x < N) (hu : u < N) (hk : C.1 (c x) = 4) (d : Nat) (v3 : Value) :
    (∃ σ', rn L xs (d + 3) 88 0 [.ref 50, .int (i32 (x : Int)), .int (i32 (u : Int)), v3] [] σ = some (.inl (some (.int 0)), σ') ∧ CT K1 K2 N C c h H S σ' ∧ (C.1 (c u) = 1 ∨ ∃ v, h (c x) v ∧ c v = c u) ∧ frT FHL [59, 60] [11] σ σ') ∨
    (∃ (σ' : tvS) (h' : Nat → Nat → Prop), rn L xs (d + 3) 88 0 [.ref 50, .int (i32 (x : Int)), .int (i32 (u : Int)), v3] [] σ = some (.inl (some (.int 1)), σ') ∧ CT K1 K2 N C c h' (H + 1) S σ' ∧ (∀ t v, c t = t → (h' t v ↔ h t v ∨ (t = c x ∧ v = c u))) ∧ C.1 (c u) ≠ 1 ∧ (¬ ∃ v, h (c x) v ∧ c v = c u) ∧ frT FHL [59, 60] [11] σ σ') := by
  obtain ⟨hl, hv, t1, t2, t3, t4, t5, t6, t7, t8⟩ := hT
  have cx := t1.rlt hx
  rcases hold_c (L := L) (xs := xs) (K := fun _ => True) (t1.q _) t2 t5 hH hx hu d v3 with ⟨s1, a1, a2, a3, a4, a5, a6⟩ | ⟨s1, a1, a2, a3, a4, a5, a6, a7⟩
  · refine .inl ⟨s1, a1, ⟨hl, hv, a2.all (fun _ _ _ => trivial), a3, t3, t4.T a5 rfl rfl, a4, t6, t7, t8⟩, ?_, a5.sub rfl rfl rfl⟩
    rcases a6 with q | ⟨i, i1, i2⟩
    · exact .inl q
    · exact .inr ⟨hv i, by rw [t8]; exact ⟨i, i1, rfl⟩, i2⟩
  · refine .inr ⟨s1, hC (upL hl (c x) (hl (c x) ++ [H])) (upN hv H (c u)), a1, ⟨_, _, a2.all (fun _ _ _ => trivial), a3, fun t ht hr hne => ?_, t4.T a5 rfl rfl, a4, t6, fun t ht => ?_, rfl⟩, fun t v hr => ?_, a6, fun ⟨v, v1, v2⟩ => a7 ?_, a5⟩
    · by_cases e : t = c x
      · rw [e]; exact hk
      · unfold upL at hne
        rw [if_neg e] at hne
        exact t3 t ht hr hne
    · unfold upL
      rw [if_neg (by omega)]; exact t7 t ht
    · rw [t8]
      by_cases hlt : t < N
      · obtain ⟨_, _, b3, _⟩ := t2.2.2.2.2.1 t hlt hr
        constructor
        · rintro ⟨i, i1, i2⟩
          unfold upL at i1
          unfold upN at i2
          by_cases e : t = c x
          · rw [if_pos e] at i1
            rcases List.mem_append.mp i1 with k | k
            · rw [← e] at k
              rw [if_neg (by have := b3 i k; omega)] at i2
              exact .inl ⟨i, k, i2⟩
            · rw [List.mem_singleton.mp k, if_pos rfl] at i2
              exact .inr ⟨e, i2.symm⟩
          · rw [if_neg e] at i1
            rw [if_neg (by have := b3 i i1; omega)] at i2
            exact .inl ⟨i, i1, i2⟩
        · rintro (⟨i, i1, i2⟩ | ⟨e, e2⟩)
          · refine ⟨i, ?_, ?_⟩
            · unfold upL
              by_cases e : t = c x
              · rw [if_pos e]; rw [e] at i1; exact List.mem_append_left _ i1
              · rw [if_neg e]; exact i1
            · unfold upN
              rw [if_neg (by have := b3 i i1; omega)]; exact i2
          · refine ⟨H, ?_, ?_⟩
            · unfold upL
              rw [if_pos e]; exact List.mem_append_right _ List.mem_cons_self
            · unfold upN
              rw [if_pos rfl]; exact e2.symm
      · have : hl t = [] := t7 t (by omega)
        constructor
        · rintro ⟨i, i1, _⟩
          unfold upL at i1
          rw [if_neg (by omega), this] at i1
          cases i1
        · rintro (⟨i, i1, _⟩ | ⟨e, _⟩)
          · rw [this] at i1; cases i1
          · omega
    · rw [t8] at v1
      obtain ⟨i, i1, i2⟩ := v1
      exact ⟨i, i1, by rw [i2]; exact v2⟩
end OWNSE
