/-! REGIONS, THE MODEL: what a fn catches and keeps -/
section KEEPOF2
variable {L : Nat} {xs : Nat → Int32} {σ τ τ' τ0 τ2 : tvS} {D : pgD} {Gs : sgD} {m f N : Nat} {G : tG} {r : Nat → Nat} {R : List Nat} {ow : Nat → Int} {S0 S1 : Nat} {vs us sc : Nat → Nat} {cl : Nat → List Nat} {P e : Nat}
/-- what a part of the body adds -/
def mkq (D : pgD) (Gs : sgD) (f : Nat) (r : Nat → Nat) (R : List Nat) (ow : Nat → Int) (τ0 : tvS) (e q k : Nat) : Prop := k < R.length ∧ ((∃ i, i < D.np Gs f q ∧ R[k]? = some (r (pnM D τ0 q i))) ∨ (D.K q = 3 ∧ D.vl q = f ∧ k < R.length ∧ ow k = -1)) ∧ kpt D ow k e
/-- bits of numbers -/
def BTn (mk : Nat → Prop) (y : Int64) : Prop := ∀ b, b < 64 → (bitL y b ↔ ∃ k, mk k ∧ b = k + 1)
theorem put_bits {q : Nat} (hK : KOD D Gs m f N r R S0 S1 vs us sc cl ow σ τ0) (hfn : FNe D f P e) (hq : spn D e q) (x2 : Int32) (d : Nat) : ∀ (τ : tvS) (mk : Nat → Prop) (y4 : Int64) (v5 v8 : Value), frM FKO [103, 107] τ0 τ → TM N G r τ → BTn mk y4 →
    ∃ (τ' : tvS) (y' : Int64) (w5 w7 w8 : Value), rn L xs (d + 3) 367 154 [.ref 123, .int (i32 (f : Int)), .int x2, .int (i32 (e : Int)), .long y4, v5, .int (i32 (q : Int)), .int 0, v8] [] τ = rn L xs (d + 3) 367 206 [.ref 123, .int (i32 (f : Int)), .int x2, .int (i32 (e : Int)), .long y', w5, .int (i32 (q : Int)), w7, w8] [] τ' ∧ TM N G r τ' ∧ frM [169] [] τ τ' ∧ BTn (fun k => mk k ∨ mkq D Gs f r R ow τ0 e q k) y' := by
  intro τ mk y4 v5 v8 w hT hB
  obtain ⟨hF, hf, hR, hty, hcl, hsc, ⟨r1, r2, r3, r4⟩, hin, how, hkn⟩ := id hK
  obtain ⟨e1, e2, e3, e4⟩ := hfn.at hF hf
  have hb4 := hF.1
  have hbl := (hF.le (D.fc + 1 - (f + 1)) (f + 1) (by omega))
  have hPl := hfn.2.1
  have hqlo : D.bP f ≤ q := by have := hq.1; omega
  have hqe := hq.2
  have hqhi : q < D.bP (f + 1) := by omega
  obtain ⟨cnt, nu, hcnt, h368, h369, hiff⟩ := many_m (L := L) (xs := xs) (G := G) hK w hT hqlo hqhi d
  have loop : ∀ (j i : Nat) (τ1 : tvS) (y : Int64) (v5 v8 : Value), i + j = cnt → frM [169] [] τ τ1 → TM N G r τ1 → BTn (fun k => mk k ∨ ∃ i', i' < i ∧ nu i' = k ∧ kpt D ow k e) y →
      ∃ (τ' : tvS) (y' : Int64) (w5 w7 w8 : Value), rn L xs (d + 3) 367 154 [.ref 123, .int (i32 (f : Int)), .int x2, .int (i32 (e : Int)), .long y, v5, .int (i32 (q : Int)), .int (i32 (i : Int)), v8] [] τ1 = rn L xs (d + 3) 367 206 [.ref 123, .int (i32 (f : Int)), .int x2, .int (i32 (e : Int)), .long y', w5, .int (i32 (q : Int)), w7, w8] [] τ' ∧ TM N G r τ' ∧ frM [169] [] τ τ' ∧ BTn (fun k => mk k ∨ ∃ i', i' < cnt ∧ nu i' = k ∧ kpt D ow k e) y' := by
    intro j
    induction j with
    | zero =>
      intro i τ1 y v5 v8 ei w1 hT1 hB1
      have ei : i = cnt := by omega
      subst ei
      have wa : frM FKO [103, 107] τ0 τ1 := w.trans (w1.sub rfl rfl)
      refine ⟨τ1, y, dj v5, .int (i32 (i : Int)), dj v8, ?_, hT1, w1, hB1⟩
      rw [e367_154 (d + 2), bI_ok (h368 τ1 wa), c2_ge (by omega) (by omega) (by omega) (by omega), c_t (by omega)]
    | succ j ih =>
      intro i τ1 y v5 v8 ei w1 hT1 hB1
      have wa : frM FKO [103, 107] τ0 τ1 := w.trans (w1.sub rfl rfl)
      obtain ⟨hnu, s1, a1, a2, a3⟩ := h369 i τ1 (by omega) wa hT1
      have wb : frM FKO [103, 107] τ0 s1 := wa.trans (a3.sub rfl rfl)
      obtain ⟨o1, o2, o3⟩ := how (nu i) hnu
      obtain ⟨z, z1, z2⟩ := kept_m (L := L) (xs := xs) (σ := s1) (k := nu i) (e := e) (o := ow (nu i)) (st := D.st e) (by omega) (by omega) (by omega) (by rw [wb.rd (j := 186) rfl]; exact o1) ⟨o2, o3⟩ ((wb.rd (j := 161) rfl e).trans (hR.2 e (by omega)).1.2.2.2.2.2.1) (d + 1) jv
      have head : rn L xs (d + 3) 367 154 [.ref 123, .int (i32 (f : Int)), .int x2, .int (i32 (e : Int)), .long y, v5, .int (i32 (q : Int)), .int (i32 (i : Int)), v8] [] τ1 = cond (pv_c1 .eq z) (rn L xs (d + 3) 367 196 [.ref 123, .int (i32 (f : Int)), .int x2, .int (i32 (e : Int)), .long y, (dj (dj (dj v5))), .int (i32 (q : Int)), .int (i32 (i : Int)), .int (i32 ((nu i + 1 : Nat) : Int))] [.long y] s1) (rn L xs (d + 3) 367 197 [.ref 123, .int (i32 (f : Int)), .int x2, .int (i32 (e : Int)), .long y, (dj (dj (dj v5))), .int (i32 (q : Int)), .int (i32 (i : Int)), .int (i32 ((nu i + 1 : Nat) : Int))] [.long (nBt (nu i + 1)), .long y] s1) := by
        rw [e367_154 (d + 2), bI_ok (h368 τ1 wa), c2_ge (by omega) (by omega) (by omega) (by omega), c_f (by omega), bI_ok a1, bI_ok z1]
        rfl
      rcases z2 with ⟨k1, k2⟩ | ⟨k1, k2⟩
      · obtain ⟨τ', y', w5, w7, w8, q1, q2, q3, q4⟩ := ih (i + 1) s1 (y ||| nBt (nu i + 1)) jv (.int (i32 ((nu i + 1 : Nat) : Int))) (by omega) (w1.trans a3) a2 (fun b hb => by
          rw [bit_or, hB1 b hb, nBt_bit (by omega) hb]
          constructor
          · rintro (⟨k, k3, k4⟩ | k3)
            · exact ⟨k, k3.imp id (fun ⟨i', i1, i2⟩ => ⟨i', by omega, i2⟩), k4⟩
            · exact ⟨nu i, .inr ⟨i, by omega, rfl, k2⟩, k3⟩
          · rintro ⟨k, k3, k4⟩
            rcases k3 with k3 | ⟨i', i1, i2, i3⟩
            · exact .inl ⟨k, .inl k3, k4⟩
            · by_cases g : i' = i
              · rw [g] at i2; right; omega
              · exact .inl ⟨k, .inr ⟨i', by omega, i2, i3⟩, k4⟩)
        refine ⟨τ', y', w5, w7, w8, ?_, q2, q3, q4⟩
        rw [head, k1, show pv_c1 .eq (1 : Int32) = false from rfl, cond_false, e367_197, i32_up]
        exact q1
      · obtain ⟨τ', y', w5, w7, w8, q1, q2, q3, q4⟩ := ih (i + 1) s1 (y ||| 0) jv (.int (i32 ((nu i + 1 : Nat) : Int))) (by omega) (w1.trans a3) a2 (fun b hb => by
          rw [bit_or, hB1 b hb]
          constructor
          · rintro (⟨k, k3, k4⟩ | k3)
            · exact ⟨k, k3.imp id (fun ⟨i', i1, i2⟩ => ⟨i', by omega, i2⟩), k4⟩
            · exact absurd k3 (bit_zero b)
          · rintro ⟨k, k3, k4⟩
            rcases k3 with k3 | ⟨i', i1, i2, i3⟩
            · exact .inl ⟨k, .inl k3, k4⟩
            · by_cases g : i' = i
              · rw [g] at i2; rw [i2] at k2; exact absurd i3 k2
              · exact .inl ⟨k, .inr ⟨i', by omega, i2, i3⟩, k4⟩)
        refine ⟨τ', y', w5, w7, w8, ?_, q2, q3, q4⟩
        rw [head, k1, show pv_c1 .eq (0 : Int32) = true from rfl, cond_true, e367_196, e367_197, i32_up]
        exact q1
  obtain ⟨τ', y', w5, w7, w8, q1, q2, q3, q4⟩ := loop cnt 0 τ y4 v5 v8 (by omega) frM.refl hT (fun b hb => by
    rw [hB b hb]
    exact ⟨fun ⟨k, k1, k2⟩ => ⟨k, .inl k1, k2⟩, fun ⟨k, k1, k2⟩ => ⟨k, k1.elim id (fun ⟨i', i1, _⟩ => by omega), k2⟩⟩)
  refine ⟨τ', y', w5, w7, w8, q1, q2, q3, fun b hb => ?_⟩
  rw [q4 b hb]
  constructor
  · rintro ⟨k, k1, k2⟩
    refine ⟨k, k1.imp id (fun ⟨i', i1, i2, i3⟩ => ?_), k2⟩
    have hkl : k < R.length := by
      rw [← i2]
      exact (h369 i' τ i1 w hT).1
    exact ⟨hkl, (hiff k).mp ⟨i', i1, i2⟩, i3⟩
  · rintro ⟨k, k1, k2⟩
    refine ⟨k, k1.imp id (fun ⟨h1, h2, h3⟩ => ?_), k2⟩
    obtain ⟨i', i1, i2⟩ := (hiff k).mpr h2
    exact ⟨i', i1, i2, h3⟩
/-- what a fn has caught so far -/
def CGT (P cf : Nat) (CL : List Nat) (τ : tvS) : Prop := rd τ 196 P = i32 (cf : Int) ∧ rd τ 123 103 = i32 ((cf + CL.length : Nat) : Int) ∧ ∀ i, i < CL.length → rd τ 198 (cf + i) = i32 ((CL.getD i 0 : Nat) : Int)
def cadd (CL : List Nat) (v : Nat) : List Nat := if v ∈ CL then CL else CL ++ [v]
theorem has_loop {cf q v : Nat} {CL : List Nat} (hC : CGT P cf CL τ) (hcf : cf + CL.length ≤ 30000) (hq : q < 6000) (h157 : rd τ 157 q = i32 (v : Int)) (hv : v < 4101) (hCL : ∀ x, x ∈ CL → x < 4101) (x1 x2 x3 : Int32) (y4 : Int64) (v5 : Value) (d : Nat) : ∀ (j i : Nat) (x7 : Int32), i + j = CL.length → (x7 = 0 ∨ x7 = 1) →
    ∃ (y : Int32) (w8 : Value), rn L xs (d + 1) 367 76 [.ref 123, .int x1, .int x2, .int x3, .long y4, v5, .int (i32 (q : Int)), .int x7, .int (i32 ((cf + i : Nat) : Int))] [] τ = rn L xs (d + 1) 367 120 [.ref 123, .int x1, .int x2, .int x3, .long y4, v5, .int (i32 (q : Int)), .int y, w8] [] τ ∧ ((y = 1 ∧ (x7 = 1 ∨ ∃ i', i ≤ i' ∧ i' < CL.length ∧ CL.getD i' 0 = v)) ∨ (y = 0 ∧ x7 = 0 ∧ ∀ i', i ≤ i' → i' < CL.length → CL.getD i' 0 ≠ v)) := by
  intro j
  induction j with
  | zero =>
    intro i x7 e h7
    have e : i = CL.length := by omega
    subst e
    refine ⟨x7, .int (i32 ((cf + CL.length : Nat) : Int)), ?_, ?_⟩
    · rw [e367_76, hC.2.1, c2_ge (by omega) (by omega) (by omega) (by omega), c_t (by omega)]
    · rcases h7 with k | k
      · exact .inr ⟨k, k, fun i' h1 h2 => by omega⟩
      · exact .inl ⟨k, .inl k⟩
  | succ j ih =>
    intro i x7 e h7
    have e198 := hC.2.2 i (by omega)
    have hci : CL.getD i 0 < 4101 := hCL _ (by
      rw [List.getD_eq_getElem?_getD, List.getElem?_eq_getElem (by omega)]; exact List.getElem_mem _)
    have nx : ∀ y : Int32, rn L xs (d + 1) 367 112 [.ref 123, .int x1, .int x2, .int x3, .long y4, v5, .int (i32 (q : Int)), .int x7, .int (i32 ((cf + i : Nat) : Int))] [.int y] τ = rn L xs (d + 1) 367 76 [.ref 123, .int x1, .int x2, .int x3, .long y4, v5, .int (i32 (q : Int)), .int y, .int (i32 ((cf + (i + 1) : Nat) : Int))] [] τ := fun y => by
      rw [e367_112, i32_up, Nat.add_assoc]
    rcases h7 with k | k
    · have head : rn L xs (d + 1) 367 76 [.ref 123, .int x1, .int x2, .int x3, .long y4, v5, .int (i32 (q : Int)), .int x7, .int (i32 ((cf + i : Nat) : Int))] [] τ = cond (decide (¬ ((CL.getD i 0 : Nat) : Int) = (v : Int))) (rn L xs (d + 1) 367 111 [.ref 123, .int x1, .int x2, .int x3, .long y4, v5, .int (i32 (q : Int)), .int x7, .int (i32 ((cf + i : Nat) : Int))] [] τ) (rn L xs (d + 1) 367 107 [.ref 123, .int x1, .int x2, .int x3, .long y4, v5, .int (i32 (q : Int)), .int x7, .int (i32 ((cf + i : Nat) : Int))] [] τ) := by
        rw [e367_76, hC.2.1, c2_ge (by omega) (by omega) (by omega) (by omega), c_f (by omega), k, show pv_c1 .ne (0 : Int32) = false from rfl, cond_false, c_in (by omega) (by omega) (by omega), c_in (by omega) (by omega) (by omega), i32_ixn (by omega), i32_ixn (by omega), e198, h157, c2_ne (by omega) (by omega) (by omega) (by omega)]
      by_cases g : CL.getD i 0 = v
      · obtain ⟨y, w8, z1, z2⟩ := ih (i + 1) 1 (by omega) (.inr rfl)
        refine ⟨y, w8, ?_, ?_⟩
        · rw [head, decide_eq_false (by omega), cond_false, e367_107, nx]; exact z1
        · rcases z2 with ⟨h1, _⟩ | ⟨_, h2, _⟩
          · exact .inl ⟨h1, .inr ⟨i, Nat.le_refl _, by omega, g⟩⟩
          · cases h2
      · obtain ⟨y, w8, z1, z2⟩ := ih (i + 1) 0 (by omega) (.inl rfl)
        refine ⟨y, w8, ?_, ?_⟩
        · rw [head, decide_eq_true (by omega), cond_true, e367_111, nx]; exact z1
        · rcases z2 with ⟨h1, h2⟩ | ⟨h1, _, h3⟩
          · refine .inl ⟨h1, .inr ?_⟩
            rcases h2 with h2 | ⟨i', a, b, c⟩
            · cases h2
            · exact ⟨i', by omega, b, c⟩
          · refine .inr ⟨h1, k, fun i' a b => ?_⟩
            by_cases q : i' = i
            · rw [q]; exact g
            · exact h3 i' (by omega) b
    · subst k
      obtain ⟨y, w8, z1, z2⟩ := ih (i + 1) 1 (by omega) (.inr rfl)
      refine ⟨y, w8, ?_, ?_⟩
      · rw [e367_76, hC.2.1, c2_ge (by omega) (by omega) (by omega) (by omega), c_f (by omega), show pv_c1 .ne (1 : Int32) = true from rfl, cond_true, e367_107, nx]
        exact z1
      · rcases z2 with ⟨h1, _⟩ | ⟨_, h2, _⟩
        · exact .inl ⟨h1, .inl rfl⟩
        · cases h2
/-- one part of the body: what is caught there -/
theorem catch_step {q cf : Nat} {CL : List Nat} (hK : KOD D Gs m f N r R S0 S1 vs us sc cl ow σ τ0) (w : frM FKO [103, 107] τ0 τ) (hT : TM N G r τ) (hfn : FNe D f P e) (hq : spn D e q) (hC : CGT P cf CL τ) (hcf : cf + CL.length < 30000) (hCL : ∀ x, x ∈ CL → x < 4101) (y4 : Int64) (v5 v7 v8 : Value) (d : Nat) :
    ∃ (τ' : tvS) (w5 w7 w8 : Value), rn L xs (d + 2) 367 28 [.ref 123, .int (i32 (f : Int)), .int (i32 (P : Int)), .int (i32 (e : Int)), .long y4, v5, .int (i32 (q : Int)), v7, v8] [] τ = rn L xs (d + 2) 367 154 [.ref 123, .int (i32 (f : Int)), .int (i32 (P : Int)), .int (i32 (e : Int)), .long y4, w5, .int (i32 (q : Int)), .int 0, w8] [] τ' ∧ TM N G r τ' ∧ frM [198] [103] τ τ' ∧ CGT P cf (if D.K q = 2 ∧ D.vl q ∈ D.sl P then cadd CL (D.vl q) else CL) τ' ∧ ∀ i, i < cf → rd τ' 198 i = rd τ 198 i := by
  obtain ⟨hF, hf, hR, hty, hcl, hsc, ⟨r1, r2, r3, r4⟩, hin, how, hkn⟩ := id hK
  obtain ⟨e1, e2, e3, e4⟩ := hfn.at hF hf
  have hb4 := hF.1
  have hbl := (hF.le (D.fc + 1 - (f + 1)) (f + 1) (by omega))
  have hPf := hF.2.2 f hf
  have hPl := hfn.2.1
  have hqlo : D.bP f ≤ q := by have := hq.1; omega
  have hqe := hq.2
  have hqhi : q < D.bP (f + 1) := by omega
  have hRq := hR.2 q (by omega)
  have hPq := hPf.2.2.1 q hqlo hqhi
  have hkq := mKd3 (D.K q) (by have := hPq.1.1; omega)
  have e151 : rd τ 151 q = i32 (mKd (D.K q) : Int) := (w.rd (j := 151) rfl q).trans hRq.1.2.1
  have start : rn L xs (d + 2) 367 28 [.ref 123, .int (i32 (f : Int)), .int (i32 (P : Int)), .int (i32 (e : Int)), .long y4, v5, .int (i32 (q : Int)), v7, v8] [] τ = cond (decide (¬ (mKd (D.K q) : Int) = 3)) (rn L xs (d + 2) 367 151 [.ref 123, .int (i32 (f : Int)), .int (i32 (P : Int)), .int (i32 (e : Int)), .long y4, v5, .int (i32 (q : Int)), v7, v8] [] τ) (bI (rn L xs (d + 1) 359 0 [.ref 123, .int (rd τ 157 q), .int (rd τ 160 P), jv] [] τ) (fun a2 s1 => cond (pv_c1 .eq a2) (rn L xs (d + 2) 367 151 [.ref 123, .int (i32 (f : Int)), .int (i32 (P : Int)), .int (i32 (e : Int)), .long y4, (dj v5), .int (i32 (q : Int)), (dj v7), (dj v8)] [] s1) (cond (pv_in (i32 (P : Int)) 6000) (rn L xs (d + 2) 367 76 [.ref 123, .int (i32 (f : Int)), .int (i32 (P : Int)), .int (i32 (e : Int)), .long y4, (dj v5), .int (i32 (q : Int)), .int 0, .int (rd s1 196 (ix (i32 (P : Int))))] [] s1) none)) X0) := by
    rw [e367_28 (d + 1), c2_gt (by omega) (by omega) (by omega) (by omega), c_f (by omega), c_in (by omega) (by omega) (by omega), i32_ixn (by omega), e151, show (3 : Int32) = i32 3 from rfl, c2_ne (by omega) (by omega) (by omega) (by omega), c_in (by omega) (by omega) (by omega), c_in (by omega) (by omega) (by omega), i32_ixn (show P < 2147483648 by omega)]
  have r151 : ∀ (s : tvS) (u5 u7 u8 : Value), rn L xs (d + 2) 367 151 [.ref 123, .int (i32 (f : Int)), .int (i32 (P : Int)), .int (i32 (e : Int)), .long y4, u5, .int (i32 (q : Int)), u7, u8] [] s = rn L xs (d + 2) 367 154 [.ref 123, .int (i32 (f : Int)), .int (i32 (P : Int)), .int (i32 (e : Int)), .long y4, u5, .int (i32 (q : Int)), .int 0, u8] [] s := fun s u5 u7 u8 => e367_151 _ _ _ _ _ _ _ _ _ _
  by_cases k2 : D.K q = 2
  · have hv2 := hRq.2.2.2.2.1 (.inl k2)
    have e157 : rd τ 157 q = i32 (D.vl q : Int) := (w.rd (j := 157) rfl q).trans hv2.2
    obtain ⟨s1, s2, s3⟩ := hsc.2.2.2 P hfn.1 hfn.2.1
    have e160 : rd τ 160 P = i32 (sc P : Int) := (w.rd (j := 160) rfl P).trans s1
    have hvr := PFf.inV hPf (hPq.2.2.2.2.1 k2) hqlo hqhi
    have htl : D.tV (f + 1) ≤ 3000 := by
      have hle : ∀ j g, g + j = D.fc + 1 → D.tV g ≤ D.tV (D.fc + 1) := by
        intro j
        induction j with
        | zero => intro g e; rw [show g = D.fc + 1 by omega]; exact Nat.le_refl _
        | succ j ih => intro g e; exact Nat.le_trans (by have := (hF.2.2 g (by omega)).1.2.1; omega) (ih (g + 1) (by omega))
      have := hle (D.fc - f) (f + 1) (by omega)
      omega
    obtain ⟨z, z1, z2⟩ := around_m (L := L) (xs := xs) (σ := τ) (v := D.vl q) hsc (fun i => w.rd (j := 149) rfl i) (fun i => w.rd (j := 150) rfl i) (by rw [w.2 94 rfl]; exact r4) (by omega) htl d (sc P) (sc P) (.int (i32 (sc P : Int))) (Nat.le_refl _) s2
    rw [s3] at z2
    rcases z2 with ⟨w1, w2⟩ | ⟨w1, w2⟩
    · obtain ⟨y, w8, a1, a2⟩ := has_loop (L := L) (xs := xs) (q := q) (v := D.vl q) hC (by omega) (by omega) e157 (by omega) hCL (i32 (f : Int)) (i32 (P : Int)) (i32 (e : Int)) y4 (dj v5) (d + 1) CL.length 0 0 (by omega) (.inl rfl)
      have mem : (∃ i', 0 ≤ i' ∧ i' < CL.length ∧ CL.getD i' 0 = D.vl q) ↔ D.vl q ∈ CL := by
        constructor
        · rintro ⟨i, _, i1, i2⟩
          rw [← i2, List.getD_eq_getElem?_getD, List.getElem?_eq_getElem i1]; exact List.getElem_mem _
        · intro h
          obtain ⟨i, hi⟩ := List.getElem?_of_mem h
          exact ⟨i, Nat.zero_le _, (List.getElem?_eq_some_iff.mp hi).1, by rw [List.getD_eq_getElem?_getD, hi]; rfl⟩
      have run : rn L xs (d + 2) 367 28 [.ref 123, .int (i32 (f : Int)), .int (i32 (P : Int)), .int (i32 (e : Int)), .long y4, v5, .int (i32 (q : Int)), v7, v8] [] τ = rn L xs (d + 2) 367 120 [.ref 123, .int (i32 (f : Int)), .int (i32 (P : Int)), .int (i32 (e : Int)), .long y4, (dj v5), .int (i32 (q : Int)), .int y, w8] [] τ := by
        rw [start, decide_eq_false (by rw [hkq.1.mpr k2]; simp), cond_false, e160, e157, e359_0, bI_ok z1, w1, show pv_c1 .eq (1 : Int32) = false from rfl, cond_false, c_in (by omega) (by omega) (by omega), i32_ixn (by omega), hC.1]
        exact a1
      rw [if_pos ⟨k2, w2⟩]
      rcases a2 with ⟨h1, h2⟩ | ⟨h1, _, h3⟩
      · have hm : D.vl q ∈ CL := mem.mp (h2.resolve_left (fun h => by cases h))
        refine ⟨τ, dj v5, .int 0, w8, ?_, hT, frM.refl, by unfold cadd; rw [if_pos hm]; exact hC, fun _ _ => rfl⟩
        rw [run, e367_120, h1, show pv_c1 .ne (1 : Int32) = true from rfl, cond_true, r151]
      · have hm : D.vl q ∉ CL := fun h => by
          obtain ⟨i, i1, i2, i3⟩ := mem.mpr h
          exact h3 i i1 i2 i3
        have wn : frM [198] [103] τ (wr (wr τ 198 (cf + CL.length) (i32 (D.vl q : Int))) 123 103 (i32 ((cf + CL.length + 1 : Nat) : Int))) := (frM_wr rfl (by decide)).trans (frM_w rfl)
        refine ⟨wr (wr τ 198 (cf + CL.length) (i32 (D.vl q : Int))) 123 103 (i32 ((cf + CL.length + 1 : Nat) : Int)), dj v5, .int 0, w8, ?_, hT.fr wn rfl ⟨rfl, rfl, rfl, rfl⟩, wn, ?_, fun i hi => by rw [wr_nek (by decide), wr_nei (by omega)]⟩
        · rw [run, e367_120, h1, show pv_c1 .ne (0 : Int32) = false from rfl, cond_false, c_in (by omega) (by omega) (by omega), hC.2.1, c_in (by omega) (by omega) (by omega), i32_ixn (by omega), i32_ixn (by omega), e157, i32_up, r151]
        · unfold cadd
          rw [if_neg hm]
          refine ⟨by rw [wn.rd (j := 196) rfl]; exact hC.1, by rw [wr_self, List.length_append]; rfl, fun i hi => ?_⟩
          rw [List.length_append] at hi
          have hi : i < CL.length + 1 := hi
          rw [wr_nek (by decide)]
          by_cases g : i = CL.length
          · rw [g, wr_self, List.getD_eq_getElem?_getD, List.getElem?_append_right (Nat.le_refl _), Nat.sub_self]; rfl
          · rw [wr_nei (by omega), List.getD_eq_getElem?_getD, List.getElem?_append_left (by omega), ← List.getD_eq_getElem?_getD]
            exact hC.2.2 i (by omega)
    · refine ⟨τ, dj v5, .int 0, dj v8, ?_, hT, frM.refl, by rw [if_neg (fun h => w2 h.2)]; exact hC, fun _ _ => rfl⟩
      rw [start, decide_eq_false (by rw [hkq.1.mpr k2]; simp), cond_false, e160, e157, e359_0, bI_ok z1, w1, show pv_c1 .eq (0 : Int32) = true from rfl, cond_true, r151]
  · refine ⟨τ, v5, .int 0, v8, ?_, hT, frM.refl, by rw [if_neg (fun h => k2 h.1)]; exact hC, fun _ _ => rfl⟩
    rw [start, decide_eq_true (show ¬ (mKd (D.K q) : Int) = 3 from fun k => k2 (hkq.1.mp (by omega))), cond_true, r151]
end KEEPOF2
