/-! REGIONS, THE MODEL: keepOf and keepRegions -/
section KEEPOF4
variable {L : Nat} {xs : Nat → Int32} {σ τ τ' τ0 τ2 : tvS} {D : pgD} {Gs : sgD} {m f N : Nat} {G : tG} {r : Nat → Nat} {R : List Nat} {ow : Nat → Int} {S0 S1 : Nat} {vs us sc : Nat → Nat} {cl : Nat → List Nat} {P e : Nat}
/-- what a fn keeps, in the model -/
def mkM (D : pgD) (Gs : sgD) (f : Nat) (r : Nat → Nat) (R : List Nat) (ow : Nat → Int) (τ0 : tvS) (e k : Nat) : Prop := ∃ q, spn D e q ∧ mkq D Gs f r R ow τ0 e q k
/-- kept numbers, in a row of memory -/
def KPM (kc : Nat) (kl : Nat → Int32) (τ : tvS) : Prop := rd τ 123 107 = i32 (kc : Int) ∧ ∀ i, i < kc → rd τ 201 i = kl i
theorem keepb_loop {kf : Nat} {kl : Nat → Int32} {mk : Nat → Prop} {y4 : Int64} (hR60 : R.length ≤ 60) (hkf : kf + 61 < 40000) (h87 : rd τ0 123 87 = i32 (R.length : Int)) (hB : ∀ k, k < R.length → (bitL y4 (k + 1) ↔ mk k)) (v1 v3 : Value) (x2 : Int32) (d : Nat) : ∀ (j k : Nat) (τ : tvS) (v5 v7 v8 : Value), k + j = R.length → frM [201] [107] τ0 τ → KPM (kf + (nfil mk k).length) (fun q => if q < kf then kl q else i32 (((nfil mk k).getD (q - kf) 0 : Nat) : Int)) τ →
    ∃ (τ' : tvS) (w5 w7 w8 : Value), rn L xs (d + 1) 367 242 [.ref 123, v1, .int x2, v3, .long y4, v5, .int (i32 ((k + 1 : Nat) : Int)), v7, v8] [] τ = rn L xs (d + 1) 367 290 [.ref 123, v1, .int x2, v3, .long y4, w5, .int (i32 ((R.length + 1 : Nat) : Int)), w7, w8] [] τ' ∧ frM [201] [107] τ0 τ' ∧ KPM (kf + (nfil mk R.length).length) (fun q => if q < kf then kl q else i32 (((nfil mk R.length).getD (q - kf) 0 : Nat) : Int)) τ' := by
  intro j
  induction j with
  | zero =>
    intro k τ v5 v7 v8 e w hK
    have e : k = R.length := by omega
    subst e
    refine ⟨τ, v5, v7, v8, ?_, w, hK⟩
    rw [e367_242, w.2 87 rfl, h87, c2_gt (by omega) (by omega) (by omega) (by omega), c_t (by omega)]
  | succ j ih =>
    intro k τ v5 v7 v8 e w hK
    have hlen := nfil_len (mk := mk) k
    have hts := tsN_iff (n := k + 1) (by omega) y4
    have hb := hB k (by omega)
    obtain ⟨k1, k2⟩ := id hK
    have head : rn L xs (d + 1) 367 242 [.ref 123, v1, .int x2, v3, .long y4, v5, .int (i32 ((k + 1 : Nat) : Int)), v7, v8] [] τ = cond (pv_c1 .ne (pv_lcmp (tsN y4 (k + 1)) 1)) (rn L xs (d + 1) 367 284 [.ref 123, v1, .int x2, v3, .long y4, v5, .int (i32 ((k + 1 : Nat) : Int)), v7, v8] [] τ) (rn L xs (d + 1) 367 284 [.ref 123, v1, .int x2, v3, .long y4, v5, .int (i32 ((k + 1 : Nat) : Int)), v7, v8] [] (wr (wr τ 201 (kf + (nfil mk k).length) (i32 ((k + 1 : Nat) : Int))) 123 107 (i32 ((kf + (nfil mk k).length + 1 : Nat) : Int)))) := by
      rw [e367_242, w.2 87 rfl, h87, c2_gt (by omega) (by omega) (by omega) (by omega), c_f (by omega), k1, c_in (by omega) (by omega) (by omega), i32_ixn (by omega), i32_up]
      rfl
    by_cases g : mk k
    · have hy := nfil_y (mk := mk) g
      have w1 : frM [201] [107] τ (wr (wr τ 201 (kf + (nfil mk k).length) (i32 ((k + 1 : Nat) : Int))) 123 107 (i32 ((kf + (nfil mk k).length + 1 : Nat) : Int))) := (frM_wr rfl (by decide)).trans (frM_w rfl)
      obtain ⟨τ', w5, w7, w8, z1, z2, z3⟩ := ih (k + 1) _ (jk v5) v7 v8 (by omega) (w.trans w1) (by
        rw [hy, List.length_append]
        refine ⟨by rw [wr_self]; rfl, fun q hq => ?_⟩
        have hq : q < kf + (nfil mk k).length + 1 := hq
        show rd _ 201 q = (if q < kf then kl q else i32 (((nfil mk k ++ [k + 1]).getD (q - kf) 0 : Nat) : Int))
        rw [wr_nek (by decide)]
        by_cases g2 : q = kf + (nfil mk k).length
        · rw [g2, wr_self, if_neg (by omega), show kf + (nfil mk k).length - kf = (nfil mk k).length by omega, List.getD_eq_getElem?_getD, List.getElem?_append_right (Nat.le_refl _), Nat.sub_self]; rfl
        · rw [wr_nei g2, k2 q (by omega)]
          show (if q < kf then kl q else i32 (((nfil mk k).getD (q - kf) 0 : Nat) : Int)) = _
          by_cases g3 : q < kf
          · rw [if_pos g3, if_pos g3]
          · have e3 : (nfil mk k ++ [k + 1]).getD (q - kf) 0 = (nfil mk k).getD (q - kf) 0 := by
              rw [List.getD_eq_getElem?_getD, List.getD_eq_getElem?_getD, List.getElem?_append_left (by omega)]
            rw [if_neg g3, if_neg g3, e3])
      refine ⟨τ', w5, w7, w8, ?_, z2, z3⟩
      rw [head, hts.mpr (hb.mpr g), cond_false, e367_284, i32_up]; exact z1
    · have hn := nfil_n (mk := mk) g
      have hne : pv_c1 .ne (pv_lcmp (tsN y4 (k + 1)) 1) = true := by
        cases h : pv_c1 .ne (pv_lcmp (tsN y4 (k + 1)) 1) with
        | true => rfl
        | false => exact absurd (hb.mp (hts.mp h)) g
      obtain ⟨τ', w5, w7, w8, z1, z2, z3⟩ := ih (k + 1) τ (jk v5) v7 v8 (by omega) w (by rw [hn]; exact hK)
      refine ⟨τ', w5, w7, w8, ?_, z2, z3⟩
      rw [head, hne, cond_true, e367_284, i32_up]; exact z1
/-- what is caught and kept by a fn, in memory -/
def KPF (P cf kf : Nat) (CL KL : List Nat) (τ : tvS) : Prop := rd τ 196 P = i32 (cf : Int) ∧ rd τ 197 P = i32 (CL.length : Int) ∧ (∀ i, i < CL.length → rd τ 198 (cf + i) = i32 ((CL.getD i 0 : Nat) : Int)) ∧ rd τ 199 P = i32 (kf : Int) ∧ rd τ 200 P = i32 (KL.length : Int) ∧ ∀ i, i < KL.length → rd τ 201 (kf + i) = i32 ((KL.getD i 0 : Nat) : Int)
theorem keepOf_m {cf kf : Nat} (hK : KOD D Gs m f N r R S0 S1 vs us sc cl ow σ τ0) (w : frM FKO [103, 107] τ0 τ) (hT : TM N G r τ) (hfn : FNe D f P e) (hC40 : ∀ k, k ≤ e + 1 - D.st e → (cgF D P (D.st e) k).length ≤ 40) (hcf : cf + 41 < 30000) (hkf : kf + 61 < 40000) (h103 : rd τ 123 103 = i32 (cf : Int)) (h107 : rd τ 123 107 = i32 (kf : Int)) (d : Nat) :
    ∃ (τ' : tvS), rn L xs (d + 3) 367 0 [.ref 123, .int (i32 (f : Int)), .int (i32 (P : Int)), jv, jv, jv, jv, jv, jv] [] τ = some (.inl none, τ') ∧ TM N G r τ' ∧ frM FKO [103, 107] τ τ' ∧ KPF P cf kf (cgF D P (D.st e) (e + 1 - D.st e)) (nfil (mkM D Gs f r R ow τ0 e) R.length) τ' ∧ rd τ' 123 103 = i32 ((cf + (cgF D P (D.st e) (e + 1 - D.st e)).length : Nat) : Int) ∧ rd τ' 123 107 = i32 ((kf + (nfil (mkM D Gs f r R ow τ0 e) R.length).length : Nat) : Int) ∧ (∀ i, i < cf → rd τ' 198 i = rd τ 198 i) ∧ (∀ i, i < kf → rd τ' 201 i = rd τ 201 i) ∧ ∀ p, p ≠ P → rd τ' 196 p = rd τ 196 p ∧ rd τ' 197 p = rd τ 197 p ∧ rd τ' 199 p = rd τ 199 p ∧ rd τ' 200 p = rd τ 200 p := by
  obtain ⟨hF, hf, hR, hty, hcl, hsc, ⟨r1, r2, r3, r4⟩, hin, how, hkn⟩ := id hK
  obtain ⟨e1, e2, e3, e4⟩ := hfn.at hF hf
  have hb4 := hF.1
  have hbl := (hF.le (D.fc + 1 - (f + 1)) (f + 1) (by omega))
  have hPl := hfn.2.1
  have hRP := hR.2 P (by omega)
  have e154 : rd τ 154 P = i32 (e : Int) := (w.rd (j := 154) rfl P).trans (by
    have := (hRP.2.1 (by rw [hfn.2.2.1]; decide) 0 (by omega)).2
    rw [kid_at hfn.2.2.2] at this
    exact this)
  have e161 : rd τ 161 e = i32 (D.st e : Int) := (w.rd (j := 161) rfl e).trans (hR.2 e (by omega)).1.2.2.2.2.2.1
  obtain ⟨s1, es1⟩ : ∃ s1, s1 = wr τ 196 P (i32 (cf : Int)) := ⟨_, rfl⟩
  have w1 : frM [196] [] τ s1 := by rw [es1]; exact frM_wr rfl (by decide)
  have hC1 : CGT P cf (cgF D P (D.st e) 0) s1 := ⟨by rw [es1, wr_self], by rw [w1.2 103 rfl]; exact h103, fun i hi => (by cases hi)⟩
  obtain ⟨s2, y', w5, w7, w8, a1, a2, a3, a4, a5, a6⟩ := body_keep (L := L) (xs := xs) hK hfn hC40 hcf d (e + 1 - D.st e) 0 s1 0 jv jv jv (by omega) (w.trans (w1.sub rfl rfl)) (hT.fr w1 rfl ⟨rfl, rfl, rfl, rfl⟩) hC1 (fun b hb => ⟨fun h => absurd h (bit_zero b), fun ⟨x, ⟨q, h1, h2, _⟩, _⟩ => by omega⟩)
  obtain ⟨CL, eCL⟩ : ∃ CL, CL = cgF D P (D.st e) (e + 1 - D.st e) := ⟨_, rfl⟩
  rw [← eCL] at a4 ⊢
  have hl40 : CL.length ≤ 40 := by rw [eCL]; exact hC40 _ (Nat.le_refl _)
  obtain ⟨s3, es3⟩ : ∃ s3, s3 = wr (wr s2 197 P (i32 (CL.length : Int))) 199 P (i32 (kf : Int)) := ⟨_, rfl⟩
  have w3 : frM [197, 199] [] s2 s3 := by rw [es3]; exact (frM_wr rfl (by decide)).trans (frM_wr rfl (by decide))
  have k107 : rd s2 123 107 = i32 (kf : Int) := by rw [a3.2 107 rfl, w1.2 107 rfl]; exact h107
  have h87 : rd s3 123 87 = i32 (R.length : Int) := by rw [w3.2 87 rfl, a3.2 87 rfl, w1.2 87 rfl, w.2 87 rfl]; exact r3
  obtain ⟨s4, x5, x7, x8, b1, b2, b3⟩ := keepb_loop (L := L) (xs := xs) (R := R) (kf := kf) (kl := fun q => rd s3 201 q) (mk := mkM D Gs f r R ow τ0 e) (y4 := y') (τ0 := s3) r1 hkf h87 (fun k hk => by
    rw [a5 (k + 1) (by omega)]
    constructor
    · rintro ⟨x, h1, h2⟩
      rw [show k = x by omega]; exact h1
    · intro h; exact ⟨k, h, rfl⟩) (.int (i32 (f : Int))) (.int (i32 (e : Int))) (i32 (P : Int)) (d + 2) R.length 0 s3 (jk w5) w7 w8 (by omega) frM.refl ⟨by show rd s3 123 107 = i32 ((kf + 0 : Nat) : Int); rw [w3.2 107 rfl]; exact k107, fun q hq => by
      have hq : q < kf + 0 := hq
      exact (if_pos (show q < kf by omega)).symm⟩
  have hlenK := nfil_len (mk := mkM D Gs f r R ow τ0 e) R.length
  obtain ⟨KL, eKL⟩ : ∃ KL, KL = nfil (mkM D Gs f r R ow τ0 e) R.length := ⟨_, rfl⟩
  rw [← eKL] at b3 hlenK ⊢
  obtain ⟨s5, es5⟩ : ∃ s5, s5 = wr s4 200 P (i32 (KL.length : Int)) := ⟨_, rfl⟩
  have w5' : frM [200] [] s4 s5 := by rw [es5]; exact frM_wr rfl (by decide)
  have wT : frM FKO [103, 107] τ s5 := (w1.sub rfl rfl).trans ((a3.sub rfl rfl).trans ((w3.sub rfl rfl).trans ((b2.sub rfl rfl).trans (w5'.sub rfl rfl))))
  refine ⟨s5, ?_, ((a2.fr w3 rfl ⟨rfl, rfl, rfl, rfl⟩).fr b2 rfl ⟨rfl, rfl, rfl, rfl⟩).fr w5' rfl ⟨rfl, rfl, rfl, rfl⟩, wT, ⟨?_, ?_, fun i hi => ?_, ?_, ?_, fun i hi => ?_⟩, ?_, ?_, fun i hi => ?_, fun i hi => ?_, fun p hp => ?_⟩
  · have a1' : rn L xs (d + 3) 367 28 [.ref 123, .int (i32 (f : Int)), .int (i32 (P : Int)), .int (i32 (e : Int)), .long 0, jv, .int (i32 (D.st e : Int)), jv, jv] [] s1 = rn L xs (d + 3) 367 212 [.ref 123, .int (i32 (f : Int)), .int (i32 (P : Int)), .int (i32 (e : Int)), .long y', w5, .int (i32 ((e + 1 : Nat) : Int)), w7, w8] [] s2 := a1
    have b1' : rn L xs (d + 3) 367 242 [.ref 123, .int (i32 (f : Int)), .int (i32 (P : Int)), .int (i32 (e : Int)), .long y', (jk w5), .int 1, w7, w8] [] s3 = rn L xs (d + 3) 367 290 [.ref 123, .int (i32 (f : Int)), .int (i32 (P : Int)), .int (i32 (e : Int)), .long y', x5, .int (i32 ((R.length + 1 : Nat) : Int)), x7, x8] [] s4 := b1
    have esub : i32 ((cf + CL.length : Nat) : Int) - i32 (cf : Int) = i32 (CL.length : Int) := by rw [i32_sub]; congr 1; omega
    have esub2 : i32 ((kf + KL.length : Nat) : Int) - i32 (kf : Int) = i32 (KL.length : Int) := by rw [i32_sub]; congr 1; omega
    have e199 : rd s4 199 P = i32 (kf : Int) := by rw [b2.rd (j := 199) rfl, es3, wr_self]
    rw [e367_0, c_in (by omega) (by omega) (by omega), c_in (by omega) (by omega) (by omega), i32_ixn (by omega), e154, c_in (by omega) (by omega) (by omega), i32_ixn (by omega), e161, h103, ← es1, a1', e367_212, c_in (by omega) (by omega) (by omega), c_in (by omega) (by omega) (by omega), c_in (by omega) (by omega) (by omega), i32_ixn (by omega), a4.2.1, a4.1, esub, k107, ← es3, b1', e367_290, c_in (by omega) (by omega) (by omega), c_in (by omega) (by omega) (by omega), i32_ixn (by omega), b3.1, e199, esub2, ← es5]
  · rw [w5'.rd (j := 196) rfl, b2.rd (j := 196) rfl, w3.rd (j := 196) rfl]; exact a4.1
  · rw [w5'.rd (j := 197) rfl, b2.rd (j := 197) rfl, es3, wr_nek (by decide), wr_self]
  · rw [w5'.rd (j := 198) rfl, b2.rd (j := 198) rfl, w3.rd (j := 198) rfl]; exact a4.2.2 i hi
  · rw [w5'.rd (j := 199) rfl, b2.rd (j := 199) rfl, es3, wr_self]
  · rw [es5, wr_self]
  · rw [w5'.rd (j := 201) rfl, b3.2 (kf + i) (by omega)]
    show (if kf + i < kf then _ else i32 ((KL.getD (kf + i - kf) 0 : Nat) : Int)) = _
    rw [if_neg (by omega), show kf + i - kf = i by omega]
  · rw [w5'.2 103 rfl, b2.2 103 rfl, w3.2 103 rfl]; exact a4.2.1
  · rw [w5'.2 107 rfl]; exact b3.1
  · rw [w5'.rd (j := 198) rfl, b2.rd (j := 198) rfl, w3.rd (j := 198) rfl, a6 i hi, w1.rd (j := 198) rfl]
  · rw [w5'.rd (j := 201) rfl, b3.2 i (by omega)]
    show (if i < kf then rd s3 201 i else _) = _
    rw [if_pos hi, w3.rd (j := 201) rfl, a3.rd (j := 201) rfl, w1.rd (j := 201) rfl]
  · refine ⟨?_, ?_, ?_, ?_⟩
    · rw [w5'.rd (j := 196) rfl, b2.rd (j := 196) rfl, w3.rd (j := 196) rfl, a3.rd (j := 196) rfl, es1, wr_nei hp]
    · rw [w5'.rd (j := 197) rfl, b2.rd (j := 197) rfl, es3, wr_nek (by decide), wr_nei hp, a3.rd (j := 197) rfl, w1.rd (j := 197) rfl]
    · rw [w5'.rd (j := 199) rfl, b2.rd (j := 199) rfl, es3, wr_nei hp, wr_nek (by decide), a3.rd (j := 199) rfl, w1.rd (j := 199) rfl]
    · rw [es5, wr_nei hp, b2.rd (j := 200) rfl, w3.rd (j := 200) rfl, a3.rd (j := 200) rfl, w1.rd (j := 200) rfl]
end KEEPOF4
