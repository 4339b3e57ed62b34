/-! REGIONS, THE MODEL: keepOf, whole -/
section KEEPOF3
variable {L : Nat} {xs : Nat → Int32} {σ τ τ' τ0 τ2 : tvS} {D : pgD} {Gs : sgD} {m f N : Nat} {G : tG} {r : Nat → Nat} {R : List Nat} {ow : Nat → Int} {S0 S1 : Nat} {vs us sc : Nat → Nat} {cl : Nat → List Nat} {P e : Nat}
/-- what is caught by the first k parts from s on -/
noncomputable def cgF (D : pgD) (P s : Nat) : Nat → List Nat
  | 0 => []
  | k + 1 => @ite _ (D.K (s + k) = 2 ∧ D.vl (s + k) ∈ D.sl P) (Classical.propDecidable _) (cadd (cgF D P s k) (D.vl (s + k))) (cgF D P s k)
theorem cgF_s {s k : Nat} [Decidable (D.K (s + k) = 2 ∧ D.vl (s + k) ∈ D.sl P)] : cgF D P s (k + 1) = if D.K (s + k) = 2 ∧ D.vl (s + k) ∈ D.sl P then cadd (cgF D P s k) (D.vl (s + k)) else cgF D P s k := by
  by_cases h : D.K (s + k) = 2 ∧ D.vl (s + k) ∈ D.sl P
  · rw [if_pos h]; exact if_pos h
  · rw [if_neg h]; exact if_neg h
theorem cgF_mem {s v : Nat} : ∀ k, v ∈ cgF D P s k ↔ ∃ i, i < k ∧ D.K (s + i) = 2 ∧ D.vl (s + i) = v ∧ v ∈ D.sl P := by
  intro k
  induction k with
  | zero => exact ⟨fun h => (by cases h), fun ⟨i, h, _⟩ => by omega⟩
  | succ k ih =>
    have up : (∃ i, i < k + 1 ∧ D.K (s + i) = 2 ∧ D.vl (s + i) = v ∧ v ∈ D.sl P) ↔ (∃ i, i < k ∧ D.K (s + i) = 2 ∧ D.vl (s + i) = v ∧ v ∈ D.sl P) ∨ (D.K (s + k) = 2 ∧ D.vl (s + k) = v ∧ v ∈ D.sl P) := by
      constructor
      · rintro ⟨i, h1, h2⟩
        by_cases e : i = k
        · rw [e] at h2; exact .inr h2
        · exact .inl ⟨i, by omega, h2⟩
      · rintro (⟨i, h1, h2⟩ | h)
        · exact ⟨i, by omega, h2⟩
        · exact ⟨k, by omega, h⟩
    rw [up, ← ih, cgF_s]
    by_cases h : D.K (s + k) = 2 ∧ D.vl (s + k) ∈ D.sl P
    · rw [if_pos h]
      unfold cadd
      by_cases g : D.vl (s + k) ∈ cgF D P s k
      · rw [if_pos g]
        exact ⟨.inl, fun q => q.elim id (fun q => by rw [← q.2.1]; exact g)⟩
      · rw [if_neg g, List.mem_append, List.mem_singleton]
        constructor
        · rintro (q | q)
          · exact .inl q
          · exact .inr ⟨h.1, q.symm, by rw [q]; exact h.2⟩
        · rintro (q | q)
          · exact .inl q
          · exact .inr q.2.1.symm
    · rw [if_neg h]
      exact ⟨.inl, fun q => q.elim id (fun q => absurd ⟨q.1, by rw [q.2.1]; exact q.2.2⟩ h)⟩
theorem cgF_nodup {s : Nat} : ∀ k, (cgF D P s k).Nodup := by
  intro k
  induction k with
  | zero => exact List.nodup_nil
  | succ k ih =>
    rw [cgF_s]
    by_cases h : D.K (s + k) = 2 ∧ D.vl (s + k) ∈ D.sl P
    · rw [if_pos h]
      unfold cadd
      by_cases g : D.vl (s + k) ∈ cgF D P s k
      · rw [if_pos g]; exact ih
      · rw [if_neg g, List.nodup_append]
        exact ⟨ih, List.nodup_cons.mpr ⟨fun k => (by cases k), List.nodup_nil⟩, fun a ha b hb e => g (by rw [List.mem_singleton.mp hb] at e; rw [← e]; exact ha)⟩
    · rw [if_neg h]; exact ih
theorem body_keep {cf : Nat} (hK : KOD D Gs m f N r R S0 S1 vs us sc cl ow σ τ0) (hfn : FNe D f P e) (hC40 : ∀ k, k ≤ e + 1 - D.st e → (cgF D P (D.st e) k).length ≤ 40) (hcf : cf + 41 < 30000) (d : Nat) : ∀ (j k : Nat) (τ : tvS) (y4 : Int64) (v5 v7 v8 : Value), D.st e + k + j = e + 1 → frM FKO [103, 107] τ0 τ → TM N G r τ → CGT P cf (cgF D P (D.st e) k) τ → BTn (fun x => ∃ q, D.st e ≤ q ∧ q < D.st e + k ∧ mkq D Gs f r R ow τ0 e q x) y4 →
    ∃ (τ' : tvS) (y' : Int64) (w5 w7 w8 : Value), rn L xs (d + 3) 367 28 [.ref 123, .int (i32 (f : Int)), .int (i32 (P : Int)), .int (i32 (e : Int)), .long y4, v5, .int (i32 ((D.st e + k : Nat) : Int)), v7, v8] [] τ = rn L xs (d + 3) 367 212 [.ref 123, .int (i32 (f : Int)), .int (i32 (P : Int)), .int (i32 (e : Int)), .long y', w5, .int (i32 ((e + 1 : Nat) : Int)), w7, w8] [] τ' ∧ TM N G r τ' ∧ frM [169, 198] [103] τ τ' ∧ CGT P cf (cgF D P (D.st e) (e + 1 - D.st e)) τ' ∧ BTn (fun x => ∃ q, spn D e q ∧ mkq D Gs f r R ow τ0 e q x) y' ∧ ∀ i, i < cf → rd τ' 198 i = rd τ 198 i := by
  obtain ⟨hF, hf, hR, hty, hcl, hsc, ⟨r1, r2, r3, r4⟩, hin, how, hkn⟩ := id hK
  obtain ⟨e1, e2, e3, e4⟩ := hfn.at hF hf
  have hb4 := hF.1
  have hbl := (hF.le (D.fc + 1 - (f + 1)) (f + 1) (by omega))
  have hPf := hF.2.2 f hf
  have hPl := hfn.2.1
  intro j
  induction j with
  | zero =>
    intro k τ y4 v5 v7 v8 ek w hT hC hB
    have ek : D.st e + k = e + 1 := by omega
    refine ⟨τ, y4, v5, v7, v8, ?_, hT, frM.refl, by rw [show e + 1 - D.st e = k by omega]; exact hC, fun b hb => ?_, fun _ _ => rfl⟩
    · rw [ek, e367_28 (d + 2), c2_gt (by omega) (by omega) (by omega) (by omega), c_t (by omega)]
    · rw [hB b hb]
      constructor
      · rintro ⟨x, ⟨q, h1, h2, h3⟩, h4⟩; exact ⟨x, ⟨q, ⟨h1, by omega⟩, h3⟩, h4⟩
      · rintro ⟨x, ⟨q, ⟨h1, h2⟩, h3⟩, h4⟩; exact ⟨x, ⟨q, h1, by omega, h3⟩, h4⟩
  | succ j ih =>
    intro k τ y4 v5 v7 v8 ek w hT hC hB
    have hq : spn D e (D.st e + k) := ⟨by omega, by omega⟩
    have h40 := hC40 k (by omega)
    obtain ⟨s1, u5, u7, u8, a1, a2, a3, a4, a5⟩ := catch_step (L := L) (xs := xs) hK w hT hfn hq hC (by omega) (fun x hx => by
      obtain ⟨i, i1, i2, i3, i4⟩ := (cgF_mem k).mp hx
      have := PFf.inV hPf i4 hfn.1 hfn.2.1
      have htl : D.tV (f + 1) ≤ D.tV (D.fc + 1) := by
        have hle : ∀ j g, g + j = D.fc + 1 → D.tV g ≤ D.tV (D.fc + 1) := by
          intro j
          induction j with
          | zero => intro g e; rw [show g = D.fc + 1 by omega]; exact Nat.le_refl _
          | succ j ih => intro g e; exact Nat.le_trans (by have := (hF.2.2 g (by omega)).1.2.1; omega) (ih (g + 1) (by omega))
        exact hle (D.fc - f) (f + 1) (by omega)
      omega) y4 v5 v7 v8 (d + 1)
    have wa : frM FKO [103, 107] τ0 s1 := w.trans (a3.sub rfl rfl)
    rw [← cgF_s] at a4
    obtain ⟨s2, y', w5, w7, w8, b1, b2, b3, b4⟩ := put_bits (L := L) (xs := xs) hK hfn hq (i32 (P : Int)) d s1 _ y4 u5 u8 wa a2 hB
    have hC2 : CGT P cf (cgF D P (D.st e) (k + 1)) s2 := ⟨by rw [b3.rd (j := 196) rfl]; exact a4.1, by rw [b3.2 103 rfl]; exact a4.2.1, fun i hi => by rw [b3.rd (j := 198) rfl]; exact a4.2.2 i hi⟩
    obtain ⟨τ', y2, x5, x7, x8, z1, z2, z3, z4, z5, z6⟩ := ih (k + 1) s2 y' (jk w5) w7 w8 (by omega) (wa.trans (b3.sub rfl rfl)) b2 hC2 (fun b hb => by
      rw [b4 b hb]
      constructor
      · rintro ⟨x, h | h, h4⟩
        · obtain ⟨q, h1, h2, h3⟩ := h; exact ⟨x, ⟨q, h1, by omega, h3⟩, h4⟩
        · exact ⟨x, ⟨D.st e + k, by omega, by omega, h⟩, h4⟩
      · rintro ⟨x, ⟨q, h1, h2, h3⟩, h4⟩
        by_cases g : q = D.st e + k
        · rw [g] at h3; exact ⟨x, .inr h3, h4⟩
        · exact ⟨x, .inl ⟨q, h1, by omega, h3⟩, h4⟩)
    refine ⟨τ', y2, x5, x7, x8, ?_, z2, (a3.sub rfl rfl).trans ((b3.sub rfl rfl).trans z3), z4, z5, fun i hi => by rw [z6 i hi, b3.rd (j := 198) rfl]; exact a5 i hi⟩
    rw [a1, b1, e367_206, i32_up]
    exact z1
def tsN (y : Int64) (n : Nat) : Int64 := (y >>> ((i32 (n : Int)).toInt64 &&& 63)) &&& 1
theorem shn_all : ((List.range 61).all fun k => decide (((((i32 (k : Int)).toInt64 &&& 63) : Int64).toBitVec.smod 64).toNat = k)) = true := by decide
theorem tsN_iff {n : Nat} (hn : n ≤ 60) (y : Int64) : pv_c1 .ne (pv_lcmp (tsN y n) 1) = false ↔ bitL y n := by
  have e1 : ((((i32 (n : Int)).toInt64 &&& 63) : Int64).toBitVec.smod 64).toNat = n := of_decide_eq_true (List.all_eq_true.mp shn_all n (List.mem_range.mpr (by omega)))
  have e2 : (tsN y n).toBitVec = y.toBitVec.sshiftRight n &&& 1#64 := by
    unfold tsN
    show (y >>> ((i32 (n : Int)).toInt64 &&& 63)).toBitVec &&& (1 : Int64).toBitVec = _
    have : (y >>> ((i32 (n : Int)).toInt64 &&& 63)).toBitVec = y.toBitVec.sshiftRight n := by
      show BitVec.sshiftRight' y.toBitVec (((i32 (n : Int)).toInt64 &&& 63).toBitVec.smod 64) = _
      unfold BitVec.sshiftRight'
      rw [e1]
    rw [this]; rfl
  have hb : y.toBitVec.getLsbD n = true → tsN y n = 1 := fun h => by
    apply Int64.toBitVec_inj.mp
    rw [e2]
    apply BitVec.eq_of_getLsbD_eq
    intro i hi
    simp only [BitVec.getLsbD_and, BitVec.getLsbD_sshiftRight, BitVec.getLsbD_one]
    by_cases q : i = 0
    · subst q
      rw [BitVec.getLsbD_eq_getElem (by omega)] at h
      have e3 : (Int64.toBitVec 1).getLsbD 0 = true := rfl
      rw [e3]
      simp [h, show n < 64 by omega]
    · have e3 : (Int64.toBitVec 1).getLsbD i = false := by
        have : (Int64.toBitVec 1) = 1#64 := rfl
        rw [this, BitVec.getLsbD_one]; simp [q]
      rw [e3]; simp [q]
  have hb0 : y.toBitVec.getLsbD n = false → tsN y n = 0 := fun h => by
    apply Int64.toBitVec_inj.mp
    rw [e2]
    apply BitVec.eq_of_getLsbD_eq
    intro i hi
    simp only [BitVec.getLsbD_and, BitVec.getLsbD_sshiftRight, BitVec.getLsbD_one]
    by_cases q : i = 0
    · subst q
      rw [BitVec.getLsbD_eq_getElem (by omega)] at h
      simp [h, show n < 64 by omega]
    · simp [q]
  unfold bitL
  cases h : y.toBitVec.getLsbD n with
  | true => rw [hb h]; exact ⟨fun _ => rfl, fun _ => by decide⟩
  | false => rw [hb0 h]; exact ⟨fun k => absurd k (by decide), fun k => by cases k⟩
end KEEPOF3
