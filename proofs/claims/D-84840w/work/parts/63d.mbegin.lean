/-! RUNS, MODEL: a part begins -/
section MBEGIN
variable {L : Nat} {xs : Nat → Int32} {τ τ' τ0 τ1 : tvS} {D : pgD} {rg : rgD} {cd : cdD} {vd : Nat → Nat} {N m : Nat} {G : tG} {rr : Nat → Nat} {X X' Xa : dyD} {K : List (Nat × Nat × Nat)} {n nr nr0 i st c B no mt wd pgs ev fil f p w : Nat} {s s0 : cSt} {fn fn0 : Nat → Nat × Nat} {oa : Nat → Nat}
theorem MOb.same (h : MOb X n oa fil τ) (e0 : X'.sv = X.sv) (e1 : X'.hp = X.hp) (e2 : X'.no = X.no) : MOb X' n oa fil τ := by
  obtain ⟨a, b, c, d, e, f⟩ := h
  have hR : ∀ o, RCO X' n o → RCO X n o := fun o ⟨k, h1, h2⟩ => ⟨k, h1, by rw [e0, e1, e2] at h2; exact h2⟩
  refine ⟨by rw [e2]; exact a, b, c, by rw [e1, e2]; exact d, fun o ho => by rw [e1]; exact e o (hR o ho), fun o o' ho ho' hl => by rw [e1]; exact f o o' (hR o ho) (hR o' ho') hl⟩
/-- its regions are made -/
theorem regs_m (hRS : RSm D rg cd vd N G rr τ0) (hf : f ≤ D.fc) (hfc : D.fc ≤ 20) (hnK : rg.nK f ≤ 60) (hp : p < 6000) (how : ∀ k, k < rg.nK f → -1 ≤ rg.ow f k ∧ rg.ow f k < 4101) (hB : Xa.B + 100 < 10000000) (d : Nat) :
    ∀ (j k : Nat) (τ : tvS), k + j = rg.nK f → frM [213, 216, 217, 218, 219, 220, 221] [129, 144] τ0 τ → nr0 + (nfil (fun k => rg.ow f k = (p : Int)) k).length ≤ 2000 → MFr (mkL Xa i nr0 (nfil (fun k => rg.ow f k = (p : Int)) k)) i τ → MPu (mkF fn0 f nr0 (nfil (fun k => rg.ow f k = (p : Int)) k)) (mkS s0 nr0 (nfil (fun k => rg.ow f k = (p : Int)) k)) st (mkL Xa i nr0 (nfil (fun k => rg.ow f k = (p : Int)) k)).B (mkL Xa i nr0 (nfil (fun k => rg.ow f k = (p : Int)) k)).ser (nr0 + (nfil (fun k => rg.ow f k = (p : Int)) k).length) τ →
      (nr0 + (ownN rg f p).length ≤ 2000 ∧ ∃ τ' v2 v3, rn L xs (d + 3) 418 12 [.ref 123, .int (i32 (p : Int)), .int (i32 (f : Int)), .int (i32 ((k + 1 : Nat) : Int))] [] τ = rn L xs (d + 3) 418 53 [.ref 123, .int (i32 (p : Int)), v2, v3] [] τ' ∧ MFr (mkL Xa i nr0 (ownN rg f p)) i τ' ∧ MPu (mkF fn0 f nr0 (ownN rg f p)) (mkS s0 nr0 (ownN rg f p)) st (mkL Xa i nr0 (ownN rg f p)).B (mkL Xa i nr0 (ownN rg f p)).ser (nr0 + (ownN rg f p).length) τ' ∧ frM [213, 216, 217, 218, 219, 220, 221] [129, 144] τ0 τ') ∨
      (2000 < nr0 + (ownN rg f p).length ∧ ∃ τ1 τ', rn L xs (d + 3) 418 12 [.ref 123, .int (i32 (p : Int)), .int (i32 (f : Int)), .int (i32 ((k + 1 : Nat) : Int))] [] τ = some (.inl none, τ') ∧ MCn (st, s0.cl, s0.cp, s0.U, s0.pk) (Xa.B + (2000 - nr0)) τ1 ∧ frM [213, 216, 217, 218, 219, 220, 221] [129, 144] τ0 τ1 ∧ MEn 5 τ1 τ') := by
  obtain ⟨_, n1, _, _, n4⟩ := hRS.2.1 f hf
  intro j
  induction j with
  | zero =>
    intro k τ hk w hl hF hP
    have e : k = rg.nK f := by omega
    subst e
    refine .inl ⟨hl, τ, .int (i32 (f : Int)), .int (i32 ((rg.nK f + 1 : Nat) : Int)), ?_, hF, hP, w⟩
    rw [e418_12, c_in (by omega) (by omega) (by omega), i32_ixn (by omega), w.rd (j := 190) rfl, n1, c2_gt (by omega) (by omega) (by omega) (by omega), c_t (by omega)]
  | succ j ih =>
    intro k τ hk w hl hF hP
    have e64 : (64 : Int32) * i32 (f : Int) + i32 ((k + 1 : Nat) : Int) = i32 ((64 * f + k + 1 : Nat) : Int) := by rw [show (64 : Int32) = i32 64 from rfl, i32_mul, i32_add]; congr 1
    have hw := how k (by omega)
    have head : rn L xs (d + 3) 418 12 [.ref 123, .int (i32 (p : Int)), .int (i32 (f : Int)), .int (i32 ((k + 1 : Nat) : Int))] [] τ = cond (decide (¬ rg.ow f k = (p : Int))) (rn L xs (d + 3) 418 47 [.ref 123, .int (i32 (p : Int)), .int (i32 (f : Int)), .int (i32 ((k + 1 : Nat) : Int))] [] τ) (bI (rn L xs (d + 2) 396 0 [.ref 123, .int (i32 (f : Int)), .int (i32 ((k + 1 : Nat) : Int))] [] τ) (fun a2 s1 => cond (pv_c1 .ne a2) (rn L xs (d + 3) 418 47 [.ref 123, .int (i32 (p : Int)), .int (i32 (f : Int)), .int (i32 ((k + 1 : Nat) : Int))] [] s1) (some (.inl none, s1))) X0) := by
      rw [e418_12 (d + 2), c_in (by omega) (by omega) (by omega), i32_ixn (by omega), w.rd (j := 190) rfl, n1, c2_gt (by omega) (by omega) (by omega) (by omega), c_f (by omega), e64, c_in (by omega) (by omega) (by omega), i32_ixn (by omega), w.rd (j := 194) rfl, n4 k (by omega), c2_ne (by omega) (by omega) (by omega) (by omega)]
    by_cases c : rg.ow f k = (p : Int)
    · obtain ⟨l, hl0⟩ : ∃ l, l = nfil (fun k => rg.ow f k = (p : Int)) k := ⟨_, rfl⟩
      have el : nfil (fun k => rg.ow f k = (p : Int)) (k + 1) = l ++ [k + 1] := by rw [nfil_y c, hl0]
      have ell : (l ++ [k + 1]).length = l.length + 1 := by rw [List.length_append]; rfl
      have hlen : l.length + 1 ≤ (ownN rg f p).length := by
        have := nfil_pre (mk := fun k => rg.ow f k = (p : Int)) (rg.nK f - (k + 1)) (k + 1)
        rw [el, ell, show k + 1 + (rg.nK f - (k + 1)) = rg.nK f by omega] at this
        exact this
      have hlk : l.length ≤ 60 := by
        have := nfil_len (mk := fun k => rg.ow f k = (p : Int)) k
        rw [← hl0] at this
        omega
      rw [← hl0] at hl hF hP
      by_cases c2 : nr0 + l.length = 2000
      · obtain ⟨τ', a1, a2⟩ := region_full (L := L) (xs := xs) hP.1 c2 (i32 (f : Int)) (i32 ((k + 1 : Nat) : Int)) d
        refine .inr ⟨by omega, τ, τ', ?_, ?_, w, a2⟩
        · rw [head, c_f (by omega), bI_ok a1]; rfl
        · have := hP.2
          rw [(mkL_B l Xa nr0).1] at this
          have e2 := mkS_2 l s0 nr0
          unfold cSt.cl cSt.cp cSt.U cSt.pk at this ⊢
          rw [e2] at this
          rw [show 2000 - nr0 = l.length by omega]; exact this
      · have eX : mkL Xa i nr0 (l ++ [k + 1]) = mkX (mkL Xa i nr0 l) i (k + 1) (nr0 + l.length) := by rw [mkL_app]; rfl
        have eF : mkF fn0 f nr0 (l ++ [k + 1]) = uq (mkF fn0 f nr0 l) (nr0 + l.length) (f, k + 1) := by rw [mkF_app]; rfl
        have eS : mkS s0 nr0 (l ++ [k + 1]) = (uq (mkS s0 nr0 l).R (nr0 + l.length) (0, 0, 0), (mkS s0 nr0 l).2) := by rw [mkS_app]; rfl
        have hBB : (mkL Xa i nr0 l).B < 10000000 := by rw [(mkL_B l Xa nr0).1]; omega
        obtain ⟨τ', a1, a2, a3, a4, a5⟩ := region_m (L := L) (xs := xs) (f := f) (k := k + 1) hP.1 hF hP.2 (by omega) (by omega) mkX_ok hBB (d + 1)
        have := ih (k + 1) τ' (by omega) (w.trans a5) (by rw [el, ell]; omega) (by rw [el, eX]; exact a3) (by
          rw [el, eX, eF, eS, ell]
          refine ⟨?_, a4⟩
          have eY : uq (fun q => ((mkF fn0 f nr0 l q).1, (mkF fn0 f nr0 l q).2, (mkS s0 nr0 l).R q)) (nr0 + l.length) (f, k + 1, 0, 0, 0) = (fun q => ((uq (mkF fn0 f nr0 l) (nr0 + l.length) (f, k + 1) q).1, (uq (mkF fn0 f nr0 l) (nr0 + l.length) (f, k + 1) q).2, (uq (mkS s0 nr0 l).R (nr0 + l.length) (0, 0, 0)) q)) := by
            funext q
            by_cases e : q = nr0 + l.length
            · rw [e, uq_self, uq_self, uq_self]
            · rw [uq_ne e, uq_ne e, uq_ne e]
          rw [eY] at a2
          exact a2)
        have hd : rn L xs (d + 3) 418 12 [.ref 123, .int (i32 (p : Int)), .int (i32 (f : Int)), .int (i32 ((k + 1 : Nat) : Int))] [] τ = rn L xs (d + 3) 418 12 [.ref 123, .int (i32 (p : Int)), .int (i32 (f : Int)), .int (i32 ((k + 1 + 1 : Nat) : Int))] [] τ' := by
          rw [head, c_f (by omega), bI_ok a1, show pv_c1 .ne (1 : Int32) = true from rfl, cond_true, e418_47, i32_up]
        rw [hd]; exact this
    · have el := nfil_n (mk := fun k => rg.ow f k = (p : Int)) c
      have := ih (k + 1) τ (by omega) w (by rw [el]; exact hl) (by rw [el]; exact hF) (by rw [el]; exact hP)
      have hd : rn L xs (d + 3) 418 12 [.ref 123, .int (i32 (p : Int)), .int (i32 (f : Int)), .int (i32 ((k + 1 : Nat) : Int))] [] τ = rn L xs (d + 3) 418 12 [.ref 123, .int (i32 (p : Int)), .int (i32 (f : Int)), .int (i32 ((k + 1 + 1 : Nat) : Int))] [] τ := by
        rw [head, c_t (by omega), e418_47, i32_up]
      rw [hd]; exact this
theorem oSt.mk (h : oSt s nr wd pgs no) : ∀ (l : List Nat), oSt (mkS s nr l) (nr + l.length) wd pgs no := by
  intro l
  induction l generalizing s nr with
  | nil => exact h
  | cons k l ih =>
    obtain ⟨h1, h2, h3, h4⟩ := h
    have h5 : oSt (uq s.R nr (0, 0, 0), s.2) (nr + 1) wd pgs no := by
      refine ⟨h1, h2, ?_, fun r hr => ?_⟩
      · show sumF (fun r => (uq s.R nr (0, 0, 0) r).2.1) 0 nr + (uq s.R nr (0, 0, 0) (0 + nr)).2.1 = s.U
        rw [Nat.zero_add, uq_self]
        have : sumF (fun r => (uq s.R nr (0, 0, 0) r).2.1) 0 nr = sumF (fun r => (s.R r).2.1) 0 nr := sumF_congr nr 0 (fun q _ hq => by rw [uq_ne (show q ≠ nr by omega)])
        rw [this]
        exact h3
      · show (uq s.R nr (0, 0, 0) r).1 ≤ no ∧ (uq s.R nr (0, 0, 0) r).2.2 ≤ wd
        by_cases e : r = nr
        · rw [e, uq_self]; exact ⟨Nat.zero_le _, Nat.zero_le _⟩
        · rw [uq_ne e]; exact h4 r (by omega)
    have := ih h5
    show oSt (mkS (uq s.R nr (0, 0, 0), s.2) (nr + 1) l) (nr + (l.length + 1)) wd pgs no
    rw [show nr + (l.length + 1) = nr + 1 + l.length by omega]
    exact this
/-- the parts of a call are planned -/
theorem plan_loop {K1 : List (Nat × Nat × Nat)} (hRS : RSp D cd τ0 p) (hk : D.K p = 3) (hp : p < 6000) (h6 : (D.kd p).length ≤ 6) (hK : K1.length + 10 < 130000) (v2 : Value) (d : Nat) : ∀ (j : Nat) (τ : tvS) (v2 : Value), j ≤ (D.kd p).length → frM [209, 210, 211] [135] τ0 τ → MCt (((D.kd p).drop j).map (fun k => (0, k, 0)) ++ K1) τ →
    ∃ τ', rn L xs (d + 2) 418 198 [.ref 123, .int (i32 (p : Int)), v2, .int (i32 ((j : Int) - 1))] [] τ = some (.inl none, τ') ∧ frM [209, 210, 211] [135] τ0 τ' ∧ MCt ((D.kd p).map (fun k => (0, k, 0)) ++ K1) τ' := by
  obtain ⟨c1, c2, c3, c4⟩ := hRS.2.2.1 hk
  intro j
  induction j with
  | zero =>
    intro τ v2 _ w h
    refine ⟨τ, ?_, w, h⟩
    rw [e418_198, c1_lt (by omega) (by omega), c_t (by omega), e418_227, e418_365]
  | succ j ih =>
    intro τ v2 hj w h
    have hlt : j < (D.kd p).length := by omega
    obtain ⟨k, hk⟩ : ∃ k, (D.kd p)[j]? = some k := ⟨_, List.getElem?_eq_getElem hlt⟩
    have e1 : i32 (((j + 1 : Nat) : Int) - 1) = i32 (j : Int) := by congr 1; omega
    have e2 : i32 (D.gb p : Int) + i32 (j : Int) = i32 ((D.gb p + j : Nat) : Int) := by rw [i32_add]; congr 1
    have e3 : i32 (j : Int) + Int32.ofInt (-1) = i32 ((j : Int) - 1) := by rw [i32_raw, i32_add]; congr 1
    have e4 : (D.kd p).drop j = k :: (D.kd p).drop (j + 1) := by
      obtain ⟨h1, h2⟩ := List.getElem?_eq_some_iff.mp hk
      rw [← h2, List.getElem_cons_drop]
    obtain ⟨τ1, a1, a2, a3⟩ := plan_m (L := L) (xs := xs) h (by rw [List.length_append, List.length_map, List.length_drop]; omega) (0, k, 0) d
    obtain ⟨τ', b1, b2, b3⟩ := ih τ1 (jk (dj v2)) (by omega) (w.trans a3) (by rw [e4]; exact a2)
    refine ⟨τ', ?_, b2, b3⟩
    rw [e418_198 (d + 1), e1, c1_lt (by omega) (by omega), c_f (by omega), c_in (by omega) (by omega) (by omega), i32_ixn (by omega), w.rd (j := 162) rfl, c1, e2, c_in (by omega) (by omega) (by omega), i32_ixn (by omega), w.rd (j := 164) rfl, c4 j k hk]
    have a1 : rn L xs (d + 1) 397 0 [.ref 123, .int 0, .int (i32 (k : Int)), .int 0] [] τ = some (.inl none, τ1) := a1
    rw [bV_ok a1, e3]
    exact b1
/-- its parts are planned -/
theorem plan_kids {b : Nat} (hRS : RSm D rg cd vd N G rr τ) (hPF : PFp D m f p) (hp : p < D.bP (D.fc + 1)) (hp2 : p < 6000) (hw : WKK w (D.K p)) (h6 : (D.kd p).length ≤ 6) (hC : MCt K τ) (hS : rd τ 123 132 = i32 (n : Int)) (hK : K.length + 20 < 130000) (v2 v3 : Value) (d : Nat) :
    ∃ τ', rn L xs (d + 2) 418 53 [.ref 123, .int (i32 (p : Int)), v2, v3] [] τ = some (.inl none, τ') ∧ MCt (plK D w p 0 ((7, p, n) :: K)) τ' ∧ frM [209, 210, 211] [135] τ τ' := by
  have hR := hRS.2.2.1 p hp
  obtain ⟨τ1, a1, a2, a3⟩ := plan_m (L := L) (xs := xs) hC (by omega) (7, p, n) d
  have a1 : rn L xs (d + 1) 397 0 [.ref 123, .int 7, .int (i32 (p : Int)), .int (rd τ 123 132)] [] τ = some (.inl none, τ1) := by rw [hS]; exact a1
  have hR1 : RSp D cd τ1 p := hR.to (fun j hj i => by rcases hj with e | e | e | e | e | e | e | e <;> rw [e] <;> exact a3.rd rfl i)
  have hl : ((7, p, n) :: K).length = K.length + 1 := rfl
  have hkd : D.K p ≠ 3 → (D.kd p).length = ari (D.K p) := hPF.2.2.1
  have head : rn L xs (d + 2) 418 53 [.ref 123, .int (i32 (p : Int)), v2, v3] [] τ = rn L xs (d + 2) 418 (t418 (mKd (D.K p))) [.ref 123, .int (i32 (p : Int)), dj v2, dj v3] [] τ1 := by
    have hm : mKd (D.K p) < 14 := by
      have : ∀ x, x < 21 → mKd x < 14 := by decide
      exact this _ (by have := hPF.1.1; omega)
    rw [e418_53 (d + 1), bV_ok a1, c_in (by omega) (by omega) (by omega), i32_ixn (by omega), hR1.1, swk_of (sw418 _ hm)]
  rw [head]
  have two : ∀ (κ : Nat), D.K p = κ → (D.kd p).length = 2 → wkN D w p = 2 → t418 (mKd κ) = 318 → (mKd κ = 7 ↔ w = 6) → (mKd κ ≠ 7 ↔ w = 1) → mKd κ < 14 → ∃ τ', rn L xs (d + 2) 418 (t418 (mKd (D.K p))) [.ref 123, .int (i32 (p : Int)), dj v2, dj v3] [] τ1 = some (.inl none, τ') ∧ MCt (plK D w p 0 ((7, p, n) :: K)) τ' ∧ frM [209, 210, 211] [135] τ τ' := by
    intro κ eκ h2 hwk ht h7 h7' hm
    obtain ⟨k0, k1, ekd⟩ : ∃ k0 k1, D.kd p = [k0, k1] := by
      match e : D.kd p, h2 with
      | [k0, k1], _ => exact ⟨k0, k1, rfl⟩
    have e3 : D.K p ≠ 3 := fun e => by rw [← eκ, e] at ht; cases ht
    obtain ⟨τ2, b1, b2, b3⟩ := plan_m (L := L) (xs := xs) a2 (by omega) (w, p, 0) d
    have e155 : rd τ2 155 p = i32 (k1 : Int) := by rw [b3.rd (j := 155) rfl]; have := hR1.2.1 e3 1 (by omega); rw [this]; exact kid_i (by rw [ekd]; rfl)
    have hl2 : ((w, p, 0) :: (7, p, n) :: K).length = K.length + 2 := rfl
    obtain ⟨τ3, c1, c2, c3⟩ := plan_m (L := L) (xs := xs) b2 (by omega) (0, k1, 0) d
    have e154 : rd τ3 154 p = i32 (k0 : Int) := by rw [c3.rd (j := 154) rfl, b3.rd (j := 154) rfl]; have := hR1.2.1 e3 0 (by omega); rw [this]; exact kid_i (by rw [ekd]; rfl)
    have hl3 : ((0, k1, 0) :: (w, p, 0) :: (7, p, n) :: K).length = K.length + 3 := rfl
    obtain ⟨τ4, d1, d2, d3⟩ := plan_m (L := L) (xs := xs) c2 (by omega) (0, k0, 0) d
    have b1 : rn L xs (d + 1) 397 0 [.ref 123, .int (i32 (w : Int)), .int (i32 (p : Int)), .int 0] [] τ1 = some (.inl none, τ2) := b1
    have c1 : rn L xs (d + 1) 397 0 [.ref 123, .int 0, .int (i32 (k1 : Int)), .int 0] [] τ2 = some (.inl none, τ3) := c1
    have d1 : rn L xs (d + 1) 397 0 [.ref 123, .int 0, .int (i32 (k0 : Int)), .int 0] [] τ3 = some (.inl none, τ4) := d1
    have epl : plK D w p 0 ((7, p, n) :: K) = (0, k0, 0) :: (0, k1, 0) :: (w, p, 0) :: (7, p, n) :: K := by unfold plK; rw [hwk, ekd]; rfl
    refine ⟨τ4, ?_, by rw [epl]; exact d2, a3.trans (b3.trans (c3.trans d3))⟩
    have h336 : rn L xs (d + 2) 418 336 [.ref 123, .int (i32 (p : Int)), dj v2, dj v3] [.int (i32 (w : Int)), .ref 123] τ1 = some (.inl none, τ4) := by
      rw [e418_336 (d + 1), bV_ok b1, c_in (by omega) (by omega) (by omega), i32_ixn (by omega), e155, bV_ok c1, c_in (by omega) (by omega) (by omega), e154, bV_ok d1, e418_365]
    rw [eκ, ht, e418_318, c_in (by omega) (by omega) (by omega), i32_ixn (by omega), hR1.1, eκ, show (7 : Int32) = i32 7 from rfl, c2_ne (by omega) (by omega) (by omega) (by omega)]
    by_cases q : mKd κ = 7
    · have hw6 := h7.mp q
      subst hw6
      rw [c_f (by omega)]; exact h336
    · have hw1 := h7'.mp q
      subst hw1
      rw [c_t (by omega), e418_335]; exact h336
  have one : ∀ (κ pc : Nat) (x : Nat), D.K p = κ → κ ≠ 3 → x = w → wkN D w p = 1 → 1 ≤ (D.kd p).length → t418 (mKd κ) = pc → (∀ (dd : Nat) (σ : tvS) (u2 u3 : Value), rn L xs (dd + 1) 418 pc [.ref 123, .int (i32 (p : Int)), u2, u3] [] σ = bV (rn L xs dd 397 0 [.ref 123, .int (i32 (x : Int)), .int (i32 (p : Int)), .int 0] [] σ) (fun s1 => cond (pv_in (i32 (p : Int)) 6000) (bV (rn L xs dd 397 0 [.ref 123, .int 0, .int (rd s1 154 (ix (i32 (p : Int)))), .int 0] [] s1) (fun s2 => rn L xs (dd + 1) 418 365 [.ref 123, .int (i32 (p : Int)), (dj (dj u2)), (dj (dj u3))] [] s2) X0) none) X0) → ∃ τ', rn L xs (d + 2) 418 (t418 (mKd (D.K p))) [.ref 123, .int (i32 (p : Int)), dj v2, dj v3] [] τ1 = some (.inl none, τ') ∧ MCt (plK D w p 0 ((7, p, n) :: K)) τ' ∧ frM [209, 210, 211] [135] τ τ' := by
    intro κ pc x eκ e3 hx hwk h1 ht heq
    subst hx
    obtain ⟨k0, l, ekd⟩ : ∃ k0 l, D.kd p = k0 :: l := by
      cases e : D.kd p with
      | nil => rw [e] at h1; exact absurd h1 (by show ¬ (1 ≤ 0); omega)
      | cons a l => exact ⟨a, l, rfl⟩
    obtain ⟨τ2, b1, b2, b3⟩ := plan_m (L := L) (xs := xs) a2 (by omega) (x, p, 0) d
    have e154 : rd τ2 154 p = i32 (k0 : Int) := by rw [b3.rd (j := 154) rfl]; have := hR1.2.1 (by omega) 0 (by omega); rw [this]; exact kid_i (by rw [ekd]; rfl)
    have hl2 : ((x, p, 0) :: (7, p, n) :: K).length = K.length + 2 := rfl
    obtain ⟨τ3, c1, c2, c3⟩ := plan_m (L := L) (xs := xs) b2 (by omega) (0, k0, 0) d
    have b1 : rn L xs (d + 1) 397 0 [.ref 123, .int (i32 (x : Int)), .int (i32 (p : Int)), .int 0] [] τ1 = some (.inl none, τ2) := b1
    have c1 : rn L xs (d + 1) 397 0 [.ref 123, .int 0, .int (i32 (k0 : Int)), .int 0] [] τ2 = some (.inl none, τ3) := c1
    have epl : plK D x p 0 ((7, p, n) :: K) = (0, k0, 0) :: (x, p, 0) :: (7, p, n) :: K := by unfold plK; rw [hwk, ekd]; rfl
    refine ⟨τ3, ?_, by rw [epl]; exact c2, a3.trans (b3.trans c3)⟩
    rw [eκ, ht, heq (d + 1) τ1 (dj v2) (dj v3), bV_ok b1, c_in (by omega) (by omega) (by omega), i32_ixn (by omega), e154, bV_ok c1, e418_365]
  rcases hw with ⟨hw1, hκ⟩ | ⟨hw1, hκ⟩ | ⟨hw1, hκ⟩ | ⟨hw1, hκ⟩ | ⟨hw1, hκ⟩ | ⟨hw1, hκ⟩
  · have hwk : wkN D w p = (D.kd p).length := by unfold wkN; rw [if_neg (by omega)]
    have e3 : D.K p ≠ 3 := by omega
    have hlen := hkd e3
    rcases hκ with e | e | e | e | e
    · rw [e] at hlen; exact two 4 e hlen (by rw [hwk]; exact hlen) rfl (by rw [hw1]; decide) (by rw [hw1]; decide) (by decide)
    · rw [e] at hlen; exact two 16 e hlen (by rw [hwk]; exact hlen) rfl (by rw [hw1]; decide) (by rw [hw1]; decide) (by decide)
    · rw [e] at hlen; exact one 5 296 1 e (by decide) hw1.symm (by rw [hwk]; exact hlen) (by rw [hlen]; decide) rfl (fun dd σ u2 u3 => e418_296 dd σ _ u2 u3)
    · rw [e] at hlen; exact one 6 296 1 e (by decide) hw1.symm (by rw [hwk]; exact hlen) (by rw [hlen]; decide) rfl (fun dd σ u2 u3 => e418_296 dd σ _ u2 u3)
    · have hall : ∀ x, x < 16 → 8 ≤ x → ari x = 2 ∧ t418 (mKd x) = 318 ∧ mKd x ≠ 7 ∧ mKd x < 14 := by decide
      obtain ⟨q1, q2, q3, q4⟩ := hall _ (by omega) e.1
      exact two _ rfl (by rw [hlen]; exact q1) (by rw [hwk, hlen]; exact q1) q2 ⟨fun h => absurd h q3, fun h => by omega⟩ ⟨fun _ => hw1, fun _ => q3⟩ q4
  · have hlen := hkd (by omega)
    rw [hκ] at hlen
    exact one 18 230 2 hκ (by decide) hw1.symm (by unfold wkN; rw [if_pos (by omega)]) (by rw [hlen]; decide) rfl (fun dd σ u2 u3 => e418_230 dd σ _ u2 u3)
  · have hlen := hkd (by omega)
    rw [hκ] at hlen
    exact one 19 252 3 hκ (by decide) hw1.symm (by unfold wkN; rw [if_pos (by omega)]) (by rw [hlen]; decide) rfl (fun dd σ u2 u3 => e418_252 dd σ _ u2 u3)
  · have hlen := hkd (by omega)
    rw [hκ] at hlen
    exact one 20 274 4 hκ (by decide) hw1.symm (by unfold wkN; rw [if_pos (by omega)]) (by rw [hlen]; decide) rfl (fun dd σ u2 u3 => e418_274 dd σ _ u2 u3)
  · have hwk : wkN D w p = (D.kd p).length := by unfold wkN; rw [if_neg (by omega)]
    obtain ⟨τ2, b1, b2, b3⟩ := plan_m (L := L) (xs := xs) a2 (by omega) (5, p, 0) d
    have b1 : rn L xs (d + 1) 397 0 [.ref 123, .int 5, .int (i32 (p : Int)), .int 0] [] τ1 = some (.inl none, τ2) := b1
    have hR2 : RSp D cd τ2 p := hR1.to (fun j hj i => by rcases hj with e | e | e | e | e | e | e | e <;> rw [e] <;> exact b3.rd rfl i)
    have hl2 : ((5, p, 0) :: (7, p, n) :: K).length = K.length + 2 := rfl
    obtain ⟨τ3, c1, c2, c3⟩ := plan_loop (L := L) (xs := xs) (K1 := (5, p, 0) :: (7, p, n) :: K) hR2 hκ hp2 h6 (by omega) jv d (D.kd p).length τ2 (jk (dj (dj v2))) (Nat.le_refl _) frM.refl (by rw [List.drop_length]; exact b2)
    have epl : plK D w p 0 ((7, p, n) :: K) = (D.kd p).map (fun k => (0, k, 0)) ++ (5, p, 0) :: (7, p, n) :: K := by unfold plK; rw [hwk, List.take_length, List.drop_zero, hw1]
    have e1 : i32 ((D.kd p).length : Int) - 1 = i32 (((D.kd p).length : Int) - 1) := by rw [show (1 : Int32) = i32 1 from rfl, i32_sub]
    refine ⟨τ3, ?_, by rw [epl]; exact c3, a3.trans (b3.trans c2)⟩
    rw [hκ, show t418 (mKd 3) = 182 from rfl, e418_182 (d + 1), bV_ok b1, c_in (by omega) (by omega) (by omega), i32_ixn (by omega), (hR2.2.2.1 hκ).2.1, e1]
    exact c1
  · have hwk : wkN D w p = (D.kd p).length := by unfold wkN; rw [if_neg (by omega)]
    have hlen := hkd (by omega)
    rw [hκ] at hlen
    exact two 7 hκ hlen (by rw [hwk]; exact hlen) rfl (by rw [hw1]; decide) (by rw [hw1]; decide) (by decide)
end MBEGIN
