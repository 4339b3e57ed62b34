/-! TYPES OF THE MODEL: two are made alike -/
section ALM
variable {L : Nat} {xs : Nat → Int32} {σ σ' : tvS}
def prL (σ : tvS) : List (Nat × Nat) → Prop
  | [] => True
  | p :: r => rd σ 177 (2 * r.length) = i32 (p.1 : Int) ∧ rd σ 177 (2 * r.length + 1) = i32 (p.2 : Int) ∧ prL σ r
theorem prL.congr : ∀ {P : List (Nat × Nat)}, prL σ P → (∀ i, i < 2 * P.length → rd σ' 177 i = rd σ 177 i) → prL σ' P := by
  intro P
  induction P with
  | nil => intro _ _; exact trivial
  | cons p r ih =>
    intro h g
    have hl : (p :: r).length = r.length + 1 := rfl
    exact ⟨by rw [g _ (by omega)]; exact h.1, by rw [g _ (by omega)]; exact h.2.1, ih h.2.2 (fun i hi => g i (by omega))⟩
theorem prL.fr {S F : List Nat} {P : List (Nat × Nat)} (h : prL σ P) (g : frM S F σ σ') (hS : inL S 177 = false) : prL σ' P := h.congr (fun i _ => g.rd (j := 177) hS i)
/-- all that is kept of the model's types, in between -/
def MS (N : Nat) (G : tG) (r : Nat → Nat) (hl : Nat → List Nat) (hv : Nat → Nat) (H Sm Sh : Nat) (σ : tvS) : Prop := TM N G r σ ∧ HM N r hl hv H σ ∧ HK N G r hl ∧ MT N Sm σ ∧ MH N Sh σ
theorem HK.joinM {N : Nat} {G : tG} {r : Nat → Nat} {hl : Nat → List Nat} {f g : Nat} {m : List Nat} (h : HK N G r hl) (hf : r f = f) (hg : r g = g) (hn : f ≠ g) (hfN : f < N) (hk : G.1 f = 0 ∨ (G.1 f = G.1 g ∧ 2 ≤ G.1 f)) (hm : ∀ i, i ∈ m → i ∈ hl f) : HK N G (gUp r f g) (hlM hl g m) := by
  intro t ht hr hne
  obtain ⟨r1, r2⟩ := gUp_rt hg hn hr
  by_cases e : t = g
  · subst e
    rw [show hlM hl t m t = m ++ hl t from if_pos rfl] at hne
    by_cases q : hl t = []
    · have q2 : hl f ≠ [] := fun k => hne (by
        rw [q, List.append_nil]
        exact List.eq_nil_iff_forall_not_mem.mpr (fun i hi => by have := hm i hi; rw [k] at this; cases this))
      have := h f hfN hf q2
      rcases hk with hk | hk <;> omega
    · exact h t ht r1 q
  · rw [show hlM hl g m t = hl t from if_neg e] at hne
    exact h t ht r1 hne
theorem HM.up {N : Nat} {r : Nat → Nat} {hl : Nat → List Nat} {hv : Nat → Nat} {H : Nat} (h : HM N r hl hv H σ) {f g : Nat} (hg : r g = g) (hn : f ≠ g) : HM N (gUp r f g) hl hv H σ := by
  obtain ⟨a1, a2, a4, a5, a6⟩ := h
  exact ⟨a1, a2, a4, fun t ht hr => a5 t ht (gUp_rt hg hn hr).1, fun t t' i ht ht' hr hr' => a6 t t' i ht ht' (gUp_rt hg hn hr).1 (gUp_rt hg hn hr').1⟩
/-- one stands in what it is to be: it cannot be -/
theorem gU.stands {G : tG} {r0 : Nat → Nat} {x1 x2 : Nat} {r : Nat → Nat} {s t : Nat} {W : List (Nat × Nat)} (h : gU G r0 x1 x2 r ((s, t) :: W)) {f g : Nat} (hfg : (f = r s ∧ g = r t) ∨ (f = r t ∧ g = r s)) (hn : f ≠ g) (hd : ∀ dd, dOK G r dd → f = r g ∨ dd f < dd g) : alF G r0 x1 x2 := by
  obtain ⟨h1, h2, h3, h4, h5, h6, h7⟩ := h
  intro R hR hc h0 hp ⟨_, dd, D, hD, e1, e2⟩
  obtain ⟨a, b⟩ := h3 R hR hc h0 hp
  have hst : R s t := b (s, t) List.mem_cons_self
  have ok : dOK G r dd := ⟨fun x y e => e1 x y (a x y e), e2⟩
  have es : dd (r s) = dd s := ok.1 _ _ (h1 s)
  have et : dd (r t) = dd t := ok.1 _ _ (h1 t)
  have est : dd s = dd t := e1 s t hst
  rcases hfg with ⟨q1, q2⟩ | ⟨q1, q2⟩
  · rcases hd dd ok with k | k
    · rw [q2, h1] at k; exact hn (by rw [q2]; exact k)
    · rw [q1, q2] at k; omega
  · rcases hd dd ok with k | k
    · rw [q2, h1] at k; exact hn (by rw [q2]; exact k)
    · rw [q1, q2] at k; omega
def FMA : List Nat := [169, 170, 171, 175, 176, 177, 183]
theorem alm_loop {N : Nat} {G : tG} {r0 : Nat → Nat} {h0 : Nat → Nat → Prop} {hv : Nat → Nat} {H x1 x2 Bm Bh : Nat} (hN : N ≤ 99990) (hBm : Bm < 2147483640) (hBh : Bh < 2147483640) (d : Nat) (x2v : Int32) : ∀ (n : Nat) (P : List (Nat × Nat)) (r : Nat → Nat) (hl : Nat → List Nat) (Sm Sh : Nat) (σ : tvS) (v1 v4 v5 v6 : Value),
    MS N G r hl hv H Sm Sh σ → gU G r0 x1 x2 r P → alH r0 h0 r (hC hl hv) → (∀ p, p ∈ P → p.1 < N ∧ p.2 < N) → prL σ P → P.length + ct (fun y => r y = y) N ≤ N + 1 → Sm + ct (fun y => r y = y) N ≤ Bm → Sh + ct (fun y => r y = y) N ≤ Bh → 2 * ct (fun y => r y = y) N + P.length ≤ n →
    (∃ σ', rn L xs (d + 4) 341 18 [.ref 123, v1, .int x2v, .int (i32 (2 * P.length : Nat)), v4, v5, v6] [] σ = some (.inl (some (.int 0)), σ') ∧ alF G r0 x1 x2 ∧ frM FMA [72, 84] σ σ') ∨
    (∃ σ' r' hl' Sm' Sh' w1 w3 w4 w5 w6, rn L xs (d + 4) 341 18 [.ref 123, v1, .int x2v, .int (i32 (2 * P.length : Nat)), v4, v5, v6] [] σ = rn L xs (d + 4) 341 254 [.ref 123, w1, .int x2v, w3, w4, w5, w6] [] σ' ∧ MS N G r' hl' hv H Sm' Sh' σ' ∧ Sm' ≤ Bm ∧ Sh' ≤ Bh ∧ alC G r0 x1 x2 r' ∧ alH r0 h0 r' (hC hl' hv) ∧ frM FMA [72, 84] σ σ') := by
  intro n
  induction n with
  | zero =>
    intro P r hl Sm Sh σ v1 v4 v5 v6 hM hU hA hP hW hc hb1 hb2 hn
    have : P = [] := List.eq_nil_of_length_eq_zero (by omega)
    subst this
    rw [e341_18, c1_le (by show -2147483648 ≤ ((0 : Nat) : Int); omega) (by show ((0 : Nat) : Int) < _; omega), c_t (by show ((0 : Nat) : Int) ≤ 0; omega)]
    exact .inr ⟨σ, r, hl, Sm, Sh, v1, _, v4, v5, v6, rfl, hM, by omega, by omega, hU.done, hA, frM.refl⟩
  | succ n ih =>
    intro P r hl Sm Sh σ v1 v4 v5 v6 hM hU hA hP hW hc hb1 hb2 hn
    cases P with
    | nil =>
      rw [e341_18, c1_le (by show -2147483648 ≤ ((0 : Nat) : Int); omega) (by show ((0 : Nat) : Int) < _; omega), c_t (by show ((0 : Nat) : Int) ≤ 0; omega)]
      exact .inr ⟨σ, r, hl, Sm, Sh, v1, _, v4, v5, v6, rfl, hM, by omega, by omega, hU.done, hA, frM.refl⟩
    | cons p P =>
      obtain ⟨s, t⟩ := p
      have hPl : P.length + 1 + ct (fun y => r y = y) N ≤ N + 1 := hc
      have hn' : 2 * ct (fun y => r y = y) N + (P.length + 1) ≤ n + 1 := hn
      obtain ⟨hs, ht⟩ := hP (s, t) List.mem_cons_self
      have hs : s < N := hs
      have ht : t < N := ht
      have hP' : ∀ p, p ∈ P → p.1 < N ∧ p.2 < N := fun p hp => hP p (List.mem_cons_of_mem _ hp)
      obtain ⟨hT, hH, hK, hMT, hMH⟩ := hM
      obtain ⟨pw1, pw2, pw3⟩ := hW
      have el : ((2 * ((s, t) :: P).length : Nat) : Int) = 2 * (P.length : Int) + 2 := by show ((2 * (P.length + 1) : Nat) : Int) = _; omega
      have e2 : i32 (2 * ((s, t) :: P).length : Nat) + Int32.ofInt (-2) = i32 (2 * P.length : Nat) := by rw [i32_raw, i32_add, el]; congr 1; omega
      have e3 : i32 (2 * P.length : Nat) + 1 = i32 (2 * P.length + 1 : Nat) := by rw [show (1 : Int32) = i32 1 from rfl, i32_add]; rfl
      rw [e341_18 (d + 3), c1_le (by omega) (by omega), c_f (by omega), e2, e3, c_in (by omega) (by omega) (by omega), i32_ixn (by omega), pw1]
      obtain ⟨s1, f1, T1, w1⟩ := find_M (L := L) (xs := xs) hT hs (d + 2) jv jv jv
      rw [bI_ok f1, c_in (by omega) (by omega) (by omega), i32_ixn (by omega), w1.rd (j := 177) rfl, pw2]
      obtain ⟨s4, f4, T4, w4⟩ := find_M (L := L) (xs := xs) T1 ht (d + 2) jv jv jv
      rw [bI_ok f4]
      have kh : frM [169] [] σ s4 := w1.trans w4
      have k4 : frM FMA [72, 84] σ s4 := kh.sub rfl rfl
      have H4 := hH.fr kh rfl ⟨rfl, rfl, rfl⟩
      have M4 := hMT.fr kh rfl ⟨rfl, rfl⟩
      have h4 := hMH.fr kh rfl rfl
      have q4 := pw3.fr kh rfl
      have b1 : r s < N := hT.rlt hs
      have b2 : r t < N := hT.rlt ht
      rw [c2_ne (by omega) (by omega) (by omega) (by omega)]
      by_cases e : r s = r t
      · rw [c_f (by omega)]
        rcases ih P r hl Sm Sh s4 _ _ _ _ ⟨T4, H4, hK, M4, h4⟩ (hU.same e) hA hP' q4 (by omega) hb1 hb2 (by omega) with ⟨σ', i1, i2, i3⟩ | ⟨σ', r', hl', Sm', Sh', u1, u3, u4, u5, u6, i1, i2, i3, i4, i5, i6, i7⟩
        · exact .inl ⟨σ', i1, i2, k4.trans i3⟩
        · exact .inr ⟨σ', r', hl', Sm', Sh', u1, u3, u4, u5, u6, i1, i2, i3, i4, i5, i6, k4.trans i7⟩
      · rw [c_t (by omega)]
        obtain ⟨a1, a2, a3, a5, a6, a7, a8⟩ := id T4
        obtain ⟨c1, c2, c3⟩ := a7 (r s) b1
        obtain ⟨g1, g2, g3⟩ := a7 (r t) b2
        have rr : ∀ z, r (r z) = r z := hU.1
        have hroot1 : 0 < ct (fun y => r y = y) N := by
          apply Classical.byContradiction
          intro q
          have : ct (fun y => r y = y) N = 0 := by omega
          have z := gUp_root (r := r) (f := r s) (g := r t) (N := N) (rr s) (rr t) e b1
          omega
        -- an unknown becomes the other
        have unk : ∀ (f g : Nat) (u1 u6 : Value), (f = r s ∧ g = r t) ∨ (f = r t ∧ g = r s) → G.1 f = 0 →
            (∃ σ', rn L xs (d + 4) 341 93 [.ref 123, u1, .int x2v, .int (i32 (2 * P.length : Nat)), .int (i32 f), .int (i32 g), u6] [] s4 = some (.inl (some (.int 0)), σ') ∧ alF G r0 x1 x2 ∧ frM FMA [72, 84] σ σ') ∨
            (∃ σ' r' hl' Sm' Sh' w1 w3 w4 w5 w6, rn L xs (d + 4) 341 93 [.ref 123, u1, .int x2v, .int (i32 (2 * P.length : Nat)), .int (i32 f), .int (i32 g), u6] [] s4 = rn L xs (d + 4) 341 254 [.ref 123, w1, .int x2v, w3, w4, w5, w6] [] σ' ∧ MS N G r' hl' hv H Sm' Sh' σ' ∧ Sm' ≤ Bm ∧ Sh' ≤ Bh ∧ alC G r0 x1 x2 r' ∧ alH r0 h0 r' (hC hl' hv) ∧ frM FMA [72, 84] σ σ') := by
          intro f g u1 u6 hfg hk
          have hf : r f = f := by rcases hfg with ⟨a, _⟩ | ⟨a, _⟩ <;> rw [a, rr]
          have hg : r g = g := by rcases hfg with ⟨_, a⟩ | ⟨_, a⟩ <;> rw [a, rr]
          have hfN : f < N := by rcases hfg with ⟨a, _⟩ | ⟨a, _⟩ <;> rw [a] <;> assumption
          have hgN : g < N := by rcases hfg with ⟨_, a⟩ | ⟨_, a⟩ <;> rw [a] <;> assumption
          have hne : f ≠ g := by rcases hfg with ⟨a, b⟩ | ⟨a, b⟩ <;> rw [a, b] <;> omega
          have hroot := gUp_root hf hg hne hfN
          obtain ⟨m1, m2, m3⟩ := a7 f hfN
          rw [e341_93 (d + 3), c_in (by omega) (by omega) (by omega), i32_ixn (by omega), m1, c1_ne (by omega) (by omega), c_f (by omega)]
          obtain ⟨s5, x, j1, T5, M5, w5, d5, j6⟩ := stands_m (L := L) (xs := xs) rr T4 (by omega) M4 (by omega) hfN hgN d jv jv
          have k5 : frM FMA [72, 84] σ s5 := k4.trans (w5.sub rfl rfl)
          rw [bI_ok j1]
          rcases j6 with j6 | ⟨j6, j7⟩
          · rw [j6, show (0 : Int32) = i32 0 from rfl, c1_eq (by omega) (by omega), c_t (by omega), e341_116 (d + 3), c_in (by omega) (by omega) (by omega), i32_ixn (by omega)]
            have w6 : frM [169] [] s5 (wr s5 169 f (i32 (g : Int))) := frM_wr rfl (by decide)
            have T6 : TM N G (gUp r f g) (wr s5 169 f (i32 (g : Int))) := T5.M w6 rfl ⟨rfl, rfl, rfl⟩ (T5.2.2.2.1.link hf hg hne hfN hgN) (fun y hy => by
              have := (a6 y hy).1
              unfold gUp; rw [this, if_neg (by omega)])
            have w46 : frM [169, 171, 176] [72] s4 (wr s5 169 f (i32 (g : Int))) := (w5.sub rfl rfl).trans (w6.sub rfl rfl)
            have H6 := (H4.fr w46 rfl ⟨rfl, rfl, rfl⟩).up hg hne
            have hlf : hl f = [] := by
              apply Classical.byContradiction
              intro q
              have := hK f hfN hf q
              omega
            have hK6 := hK.join hf hg hne hfN (.inl hk)
            have hA6 := hA.trans (alH_join (hl := hl) (hv := hv) hf hg hne) (fun x y e => gUp_sub e)
            rw [hlJ_nil hlf] at hK6 hA6
            rcases ih P (gUp r f g) hl (Sm + 1) Sh _ (dj u1) (.int (i32 f)) (.int (i32 g)) (dj u6) ⟨T6, H6, hK6, M5.fr w6 rfl ⟨rfl, rfl⟩, h4.fr w46 rfl rfl⟩ (hU.step hfg hne (.inl hk) (fun R _ _ hw => hw) (fun R _ hw => ⟨fun q => by omega, hw⟩)) hA6 hP' (q4.fr w46 rfl) (by omega) (by omega) (by omega) (by omega) with ⟨σ', i1, i2, i3⟩ | ⟨σ', r', hl', Sm', Sh', u1, u3, u4, u5, u6, i1, i2, i3, i4, i5, i6, i7⟩
            · exact .inl ⟨σ', i1, i2, k5.trans ((w6.sub rfl rfl).trans i3)⟩
            · exact .inr ⟨σ', r', hl', Sm', Sh', u1, u3, u4, u5, u6, i1, i2, i3, i4, i5, i6, k5.trans ((w6.sub rfl rfl).trans i7)⟩
          · rw [j6, show (1 : Int32) = i32 1 from rfl, c1_eq (by omega) (by omega), c_f (by omega)]
            exact .inl ⟨s5, rfl, hU.stands hfg hne j7, k5⟩
        -- one becomes another of its kind
        have box : ∀ (u1 u6 : Value), G.1 (r s) = G.1 (r t) → 2 ≤ G.1 (r s) →
            (∃ σ', rn L xs (d + 4) 341 147 [.ref 123, u1, .int x2v, .int (i32 (2 * P.length : Nat)), .int (i32 (r s)), .int (i32 (r t)), u6] [] s4 = some (.inl (some (.int 0)), σ') ∧ alF G r0 x1 x2 ∧ frM FMA [72, 84] σ σ') ∨
            (∃ σ' r' hl' Sm' Sh' w1 w3 w4 w5 w6, rn L xs (d + 4) 341 147 [.ref 123, u1, .int x2v, .int (i32 (2 * P.length : Nat)), .int (i32 (r s)), .int (i32 (r t)), u6] [] s4 = rn L xs (d + 4) 341 254 [.ref 123, w1, .int x2v, w3, w4, w5, w6] [] σ' ∧ MS N G r' hl' hv H Sm' Sh' σ' ∧ Sm' ≤ Bm ∧ Sh' ≤ Bh ∧ alC G r0 x1 x2 r' ∧ alH r0 h0 r' (hC hl' hv) ∧ frM FMA [72, 84] σ σ') := by
          intro u1 u6 hk hk2
          have hf : r (r s) = r s := rr s
          have hg : r (r t) = r t := rr t
          generalize hfe : r s = f at *
          generalize hge : r t = g at *
          have hfg : (f = r s ∧ g = r t) ∨ (f = r t ∧ g = r s) := .inl ⟨hfe.symm, hge.symm⟩
          have hroot := gUp_root hf hg e b1
          rw [e341_147 (d + 3), c_in (by omega) (by omega) (by omega), c_in (by omega) (by omega) (by omega), i32_ixn (by omega), c1, show (1 : Int32) = i32 1 from rfl, c2_ne (by omega) (by omega) (by omega) (by omega), c_t (by omega), e341_170 (d + 3)]
          have w6 : frM [169] [] s4 (wr s4 169 f (i32 (g : Int))) := frM_wr rfl (by decide)
          have T6 : TM N G (gUp r f g) (wr s4 169 f (i32 (g : Int))) := T4.M w6 rfl ⟨rfl, rfl, rfl⟩ (a5.link hf hg e b1 b2) (fun y hy => by
            have := (a6 y hy).1
            unfold gUp; rw [this, if_neg (by omega)])
          have H6 := H4.fr w6 rfl ⟨rfl, rfl, rfl⟩
          obtain ⟨s7, m, Sh7, j1, T7, H7, w7, M7, hSh7, j2, j3⟩ := join_m (L := L) (xs := xs) T6 H6 hf hg e b1 b2 (h4.fr w6 rfl rfl) (by omega) d jv jv jv
          rw [bV_ok j1]
          obtain ⟨x1', x2', x3'⟩ := T7.2.2.2.2.2.1 f b1
          obtain ⟨x4', x5', x6'⟩ := x3' hk2
          obtain ⟨y1', y2', y3'⟩ := T7.2.2.2.2.2.1 g b2
          obtain ⟨y4', y5', y6'⟩ := y3' (by omega)
          have hK7 := hK.joinM (m := m) hf hg e b1 (.inr ⟨hk, hk2⟩) j2
          have hA7 := hA.trans (alH_joinM (hl := hl) (hv := hv) hf hg e j2 j3) (fun x y e => gUp_sub e)
          have w47 : frM [169, 170, 175, 183] [84] s4 s7 := (w6.sub rfl rfl).trans w7
          have k7 : frM FMA [72, 84] σ s7 := k4.trans (w47.sub rfl rfl)
          have q7 := q4.fr w47 rfl
          have M7' := M4.fr w47 rfl ⟨rfl, rfl⟩
          have en1 : i32 (2 * P.length : Nat) + 1 = i32 (2 * P.length + 1 : Nat) := e3
          have en2 : i32 (2 * P.length : Nat) + 2 = i32 (2 * P.length + 2 : Nat) := by rw [show (2 : Int32) = i32 2 from rfl, i32_add]; rfl
          have en3 : i32 (2 * P.length + 2 : Nat) + 1 = i32 (2 * P.length + 3 : Nat) := by rw [show (1 : Int32) = i32 1 from rfl, i32_add]; rfl
          have en4 : i32 (2 * P.length + 2 : Nat) + 2 = i32 (2 * P.length + 4 : Nat) := by rw [show (2 : Int32) = i32 2 from rfl, i32_add]; rfl
          rw [en1, en2, en3, en4]
          rw [c_in (by omega) (by omega) (by omega), c_in (by omega) (by omega) (by omega), c_in (by omega) (by omega) (by omega), c_in (by omega) (by omega) (by omega), c_in (by omega) (by omega) (by omega), i32_ixn (by omega), x1', show (3 : Int32) = i32 3 from rfl, c2_eq (by omega) (by omega) (by omega) (by omega), i32_ixn (by omega), i32_ixn (by omega), i32_ixn (by omega), x4', y4']
          by_cases h3 : G.1 f = 3
          · rw [c_t (by omega), e341_251]
            have w8 : frM [177] [] s7 (wr (wr s7 177 (2 * P.length) (i32 (G.2.1 f : Int))) 177 (2 * P.length + 1) (i32 (G.2.1 g : Int))) := (frM_wr rfl (by decide)).trans (frM_wr rfl (by decide))
            have hU5 : gU G r0 x1 x2 (gUp r f g) ((G.2.1 f, G.2.1 g) :: P) := hU.step hfg e (.inr hk) (fun R hR hq hw p hp => by
                rcases List.mem_cons.mp hp with hp | hp
                · subst hp
                  rcases hq with hq | hq
                  · exact hq.1
                  · omega
                · exact hw p hp) (fun R hR hw => ⟨fun _ => ⟨hw _ List.mem_cons_self, fun q => absurd h3 q⟩, fun p hp => hw p (List.mem_cons_of_mem _ hp)⟩)
            rcases ih ((G.2.1 f, G.2.1 g) :: P) (gUp r f g) (hlM hl g m) Sm Sh7 _ (dj u1) (.int (i32 f)) (.int (i32 g)) (dj u6) ⟨T7.fr w8 rfl ⟨rfl, rfl, rfl, rfl⟩, H7.fr w8 rfl ⟨rfl, rfl, rfl⟩, hK7, M7'.fr w8 rfl ⟨rfl, rfl⟩, M7.fr w8 rfl rfl⟩ hU5 hA7 (fun p hp => by
                rcases List.mem_cons.mp hp with hp | hp
                · subst hp; exact ⟨x5', y5'⟩
                · exact hP' p hp) ⟨by rw [wr_nei (by omega), wr_self], by rw [wr_self], q7.congr (fun i hi => by rw [wr_nei (by omega), wr_nei (by omega)])⟩ (by show P.length + 1 + _ ≤ _; omega) (by omega) (by omega) (by show _ + (P.length + 1) ≤ _; omega) with ⟨σ', i1, i2, i3⟩ | ⟨σ', r', hl', Sm', Sh', u1, u3, u4, u5, u6, i1, i2, i3, i4, i5, i6, i7⟩
            · exact .inl ⟨σ', i1, i2, k7.trans ((w8.sub rfl rfl).trans i3)⟩
            · exact .inr ⟨σ', r', hl', Sm', Sh', u1, u3, u4, u5, u6, i1, i2, i3, i4, i5, i6, k7.trans ((w8.sub rfl rfl).trans i7)⟩
          · obtain ⟨x7', x8'⟩ := x6' h3
            obtain ⟨y7', y8'⟩ := y6' (by omega)
            rw [c_f (by omega), c_in (by omega) (by omega) (by omega), c_in (by omega) (by omega) (by omega), c_in (by omega) (by omega) (by omega), c_in (by omega) (by omega) (by omega), i32_ixn (by omega), i32_ixn (by omega), x7', y7', e341_251]
            have w8 : frM [177] [] s7 (wr (wr (wr (wr s7 177 (2 * P.length) (i32 (G.2.1 f : Int))) 177 (2 * P.length + 1) (i32 (G.2.1 g : Int))) 177 (2 * P.length + 2) (i32 (G.2.2 f : Int))) 177 (2 * P.length + 3) (i32 (G.2.2 g : Int))) := (frM_wr rfl (by decide)).trans ((frM_wr rfl (by decide)).trans ((frM_wr rfl (by decide)).trans (frM_wr rfl (by decide))))
            have hU5 : gU G r0 x1 x2 (gUp r f g) ((G.2.2 f, G.2.2 g) :: (G.2.1 f, G.2.1 g) :: P) := hU.step hfg e (.inr hk) (fun R hR hq hw p hp => by
                have hq : gKid G R f g := by
                  rcases hq with hq | hq
                  · exact hq
                  · omega
                rcases List.mem_cons.mp hp with hp | hp
                · subst hp
                  exact hq.2 h3
                · rcases List.mem_cons.mp hp with hp | hp
                  · subst hp
                    exact hq.1
                  · exact hw p hp) (fun R hR hw => ⟨fun _ => ⟨hw _ (List.mem_cons_of_mem _ List.mem_cons_self), fun _ => hw _ List.mem_cons_self⟩, fun p hp => hw p (List.mem_cons_of_mem _ (List.mem_cons_of_mem _ hp))⟩)
            rcases ih ((G.2.2 f, G.2.2 g) :: (G.2.1 f, G.2.1 g) :: P) (gUp r f g) (hlM hl g m) Sm Sh7 _ (dj u1) (.int (i32 f)) (.int (i32 g)) (dj u6) ⟨T7.fr w8 rfl ⟨rfl, rfl, rfl, rfl⟩, H7.fr w8 rfl ⟨rfl, rfl, rfl⟩, hK7, M7'.fr w8 rfl ⟨rfl, rfl⟩, M7.fr w8 rfl rfl⟩ hU5 hA7 (fun p hp => by
                rcases List.mem_cons.mp hp with hp | hp
                · subst hp; exact ⟨x8', y8'⟩
                · rcases List.mem_cons.mp hp with hp | hp
                  · subst hp; exact ⟨x5', y5'⟩
                  · exact hP' p hp) ⟨by show rd _ 177 (2 * (P.length + 1)) = _; rw [wr_nei (by omega), show 2 * (P.length + 1) = 2 * P.length + 2 from by omega, wr_self], by show rd _ 177 (2 * (P.length + 1) + 1) = _; rw [show 2 * (P.length + 1) + 1 = 2 * P.length + 3 from by omega, wr_self], by rw [wr_nei (by omega), wr_nei (by omega), wr_nei (by omega), wr_self], by rw [wr_nei (by omega), wr_nei (by omega), wr_self], q7.congr (fun i hi => by rw [wr_nei (by omega), wr_nei (by omega), wr_nei (by omega), wr_nei (by omega)])⟩ (by show P.length + 1 + 1 + _ ≤ _; omega) (by omega) (by omega) (by show _ + (P.length + 1 + 1) ≤ _; omega) with ⟨σ', i1, i2, i3⟩ | ⟨σ', r', hl', Sm', Sh', u1, u3, u4, u5, u6, i1, i2, i3, i4, i5, i6, i7⟩
            · exact .inl ⟨σ', i1, i2, k7.trans ((w8.sub rfl rfl).trans i3)⟩
            · exact .inr ⟨σ', r', hl', Sm', Sh', u1, u3, u4, u5, u6, i1, i2, i3, i4, i5, i6, k7.trans ((w8.sub rfl rfl).trans i7)⟩
        rw [e341_61 (d + 3), c_in (by omega) (by omega) (by omega), i32_ixn (by omega), c1, c1_eq (by omega) (by omega)]
        by_cases z1 : G.1 (r s) = 0
        · rw [c_t (by omega)]
          exact unk (r s) (r t) _ _ (.inl ⟨rfl, rfl⟩) z1
        · rw [c_f (by omega), c_in (by omega) (by omega) (by omega), i32_ixn (by omega), g1, c1_ne (by omega) (by omega)]
          by_cases z2 : G.1 (r t) = 0
          · rw [c_f (by omega)]
            exact unk (r t) (r s) _ _ (.inr ⟨rfl, rfl⟩) z2
          · rw [c_t (by omega), e341_93 (d + 3), c_in (by omega) (by omega) (by omega), i32_ixn (by omega), c1, c1_ne (by omega) (by omega), c_t (by omega), e341_128 (d + 3), c_in (by omega) (by omega) (by omega), c_in (by omega) (by omega) (by omega), i32_ixn (by omega), i32_ixn (by omega), c1, g1, c2_eq (by omega) (by omega) (by omega) (by omega)]
            by_cases z3 : G.1 (r s) = G.1 (r t)
            · rw [c_t (by omega)]
              have z4 : 2 ≤ G.1 (r s) := by
                apply Classical.byContradiction
                intro q
                have y1 := (a8 (r t)).mp (by omega)
                have y2 := (a8 (r s)).mp (by omega)
                omega
              exact box _ _ z3 z4
            · rw [c_f (by omega)]
              exact .inl ⟨s4, rfl, hU.clash z1 z2 z3, k4⟩
end ALM
