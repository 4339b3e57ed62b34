/-! REGIONS, THE MODEL: the first part that is tight; owners of numbers -/
section TIGHT
variable {L : Nat} {xs : Nat → Int32} {σ σ' τ0 τ1 σ0 : tvS} {D : pgD} {m f : Nat}
def shk (k : Nat) : Int64 := ((i32 (k : Int) - i32 (k : Int) / 64 * 64).toInt64 &&& 63)
theorem shk_all : ((List.range 60).all fun k => decide (((shk k).toBitVec.smod 64).toNat = k)) = true := by decide
theorem shk_eq {k : Nat} (hk : k < 60) : ((shk k).toBitVec.smod 64).toNat = k := of_decide_eq_true (List.all_eq_true.mp shk_all k (List.mem_range.mpr hk))
theorem shr_bv {k : Nat} (hk : k < 60) (x : Int64) : (x >>> shk k).toBitVec = x.toBitVec.sshiftRight k := by
  show BitVec.sshiftRight' x.toBitVec ((shk k).toBitVec.smod 64) = _
  unfold BitVec.sshiftRight'
  rw [shk_eq hk]
theorem bit_get {k : Nat} (hk : k < 60) (x : Int64) : ((x >>> shk k) &&& 1 = 0) ↔ x.toBitVec.getLsbD k = false := by
  have e : ((x >>> shk k) &&& 1).toBitVec = x.toBitVec.sshiftRight k &&& 1#64 := by
    show (x >>> shk k).toBitVec &&& (1 : Int64).toBitVec = _
    rw [shr_bv hk]; rfl
  constructor
  · intro h
    have h2 := congrArg Int64.toBitVec h
    rw [e] at h2
    have h3 := congrArg (fun b => BitVec.getLsbD b 0) h2
    simp only [BitVec.getLsbD_and, BitVec.getLsbD_sshiftRight] at h3
    simpa [show k < 64 by omega] using h3
  · intro h
    apply Int64.toBitVec_inj.mp
    rw [e]
    apply BitVec.eq_of_getLsbD_eq
    intro i hi
    simp only [BitVec.getLsbD_and, BitVec.getLsbD_sshiftRight, BitVec.getLsbD_one]
    by_cases q : i = 0
    · subst q
      rw [BitVec.getLsbD_eq_getElem (by omega)] at h
      simp [h, show k < 64 by omega]
    · simp [q]
theorem lcmp0 (x : Int64) : pv_c1 .ne (pv_lcmp x 0) = decide (¬ x = 0) := by
  unfold pv_lcmp lg_cmp
  by_cases h : x = 0
  · rw [h]; decide
  · rw [decide_eq_true h]
    by_cases g : x > 0
    · rw [if_pos g]; rfl
    · rw [if_neg g, if_neg h]; decide
theorem bit_test {k : Nat} (hk : k < 60) (x : Int64) : pv_c1 .ne (pv_lcmp ((x >>> shk k) &&& 1) 0) = true ↔ bitL x k := by
  rw [lcmp0, decide_eq_true_eq, bit_get hk]
  unfold bitL
  rw [Bool.not_eq_false]
theorem dv1_all : ((List.range 60).all fun k => decide (i32 (k : Int) / 64 = 0)) = true := by decide
theorem dv1 {k : Nat} (hk : k < 60) : i32 (k : Int) / 64 = 0 := of_decide_eq_true (List.all_eq_true.mp dv1_all k (List.mem_range.mpr hk))
/-- the first part, from one outwards, of which rb does not hold -/
def TGT (D : pgD) (f : Nat) (rb : Nat → Prop) (p0 : Nat) (o : Int) : Prop :=
  (o = -1 ∧ ∀ p, D.bP f ≤ p → p < D.bP (f + 1) → spn D p p0 → rb p) ∨ (∃ p : Nat, D.bP f ≤ p ∧ p < D.bP (f + 1) ∧ o = (p : Int) ∧ spn D p p0 ∧ ¬ rb p ∧ ∀ p', D.bP f ≤ p' → p' < p → spn D p' p0 → rb p')
/-- spans that have one in common lie within each other -/
theorem spn.nest (hF : PFf D m f) : ∀ (n p q x : Nat), q ≤ n → D.bP f ≤ p → p < D.bP (f + 1) → D.bP f ≤ q → q < D.bP (f + 1) → p ≤ q → spn D p x → spn D q x → spn D q p := by
  intro n
  induction n with
  | zero =>
    intro p q x h1 h2 h3 h4 h5 h6 h7 h8
    rw [show p = q by omega]
    exact ⟨(hF.2.2.1 q h4 h5).1.2.2.2, Nat.le_refl _⟩
  | succ n ih =>
    intro p q x h1 h2 h3 h4 h5 h6 h7 h8
    by_cases e : p = q
    · rw [e]; exact ⟨(hF.2.2.1 q h4 h5).1.2.2.2, Nat.le_refl _⟩
    · have hq := hF.2.2.1 q h4 h5
      by_cases ex : D.st q ≤ p
      · exact ⟨ex, h6⟩
      · exfalso
        have := h8.1; have := h7.2; omega
theorem tight_m {BT : Nat → Nat → Prop} {k : Nat} (hF : PGF D m) (hf : f ≤ D.fc) (hR : PGR D σ0 τ0) (hfm : frX [169, 171, 176, 186] [72, 94] [187, 188, 189] τ0 σ) (h90 : rd σ 123 90 = i32 ((1 : Nat) : Int)) (hB : ∀ p, D.bP f ≤ p → p < D.bP (f + 1) → LBt 187 (p - D.bP f) σ (BT p)) (hk : k < 60) {p0 : Nat} (hp1 : D.bP f ≤ p0) (hp2 : p0 < D.bP (f + 1)) (d : Nat) (v2 v3 : Value) : ∀ (j q : Nat), D.bP (f + 1) - q ≤ j → D.bP f ≤ q → q < D.bP (f + 1) → spn D q p0 → (∀ p', D.bP f ≤ p' → p' < q → spn D p' p0 → BT p' k) →
    ∃ o : Int, rn L xs (d + 1) 357 8 [.ref 123, .int (i32 (f : Int)), v2, v3, .int (i32 (k : Int)), .int (i32 (q : Int))] [] σ = some (.inl (some (.int (i32 o))), σ) ∧ TGT D f (fun p => BT p k) p0 o ∧ -1 ≤ o ∧ o < 4101 := by
  have hb4 := hF.1
  have hbl := (hF.le (D.fc + 1 - (f + 1)) (f + 1) (by omega))
  have hPf := hF.2.2 f hf
  have hff := hR.1 f hf
  intro j
  induction j with
  | zero => intro q e h1 h2; omega
  | succ j ih =>
    intro q e h1 h2 hs hpr
    have e143 : rd σ 143 f = i32 (D.bP f : Int) := (hfm.rd (j := 143) rfl f).trans hff.2.1.2.2.2.1
    have ei : (i32 (q : Int) - i32 (D.bP f : Int)) * i32 ((1 : Nat) : Int) + 0 = i32 ((q - D.bP f : Nat) : Int) := by
      rw [i32_sub, i32_mul, show (0 : Int32) = i32 0 from rfl, i32_add]; congr 1; omega
    have bt := hB q h1 h2 k (by omega)
    have go : rn L xs (d + 1) 357 8 [.ref 123, .int (i32 (f : Int)), v2, v3, .int (i32 (k : Int)), .int (i32 (q : Int))] [] σ = cond (pv_c1 .ne (pv_lcmp ((rl σ 187 (q - D.bP f) >>> shk k) &&& 1) 0)) (rn L xs (d + 1) 357 55 [.ref 123, .int (i32 (f : Int)), v2, v3, .int (i32 (k : Int)), .int (i32 (q : Int))] [] σ) (some (.inl (some (.int (i32 (q : Int)))), σ)) := by
      rw [e357_8, i32_raw, c2_eq (by omega) (by omega) (by omega) (by omega), c_f (by omega), c_in (by omega) (by omega) (by omega), i32_ixn (by omega), e143, h90, dv1 hk, ei, c_in (by omega) (by omega) (by omega), i32_ixn (by omega)]
      unfold shk
      rw [dv1 hk]
    by_cases hb : bitL (rl σ 187 (q - D.bP f)) k
    · rw [go, (bit_test hk _).mpr hb, cond_true, e357_55, c_in (by omega) (by omega) (by omega), i32_ixn (by omega), hfm.rd (j := 159) rfl, (hR.2 q (by omega)).1.2.2.2.2.2.2]
      have all : ∀ p', D.bP f ≤ p' → p' < q + 1 → spn D p' p0 → BT p' k := fun p' g1 g2 g3 => by
        by_cases eq : p' = q
        · rw [eq]; exact bt.mp hb
        · exact hpr p' g1 (by omega) g3
      by_cases hw : q + 1 < D.bP (f + 1)
      · obtain ⟨r, w, r1, r2, r3⟩ := hPf.2.2.2.1 q h1 hw
        have e24 := ((hR.2 r (by omega)).2.2.2.1 w q r3).1
        have hsr : spn D r p0 := by
          have hk := contN.at _ _ _ _ _ (hPf.2.2.1 r (by omega) r2).2.1 r3
          exact ⟨by have := hs.1; omega, by have := hs.2; omega⟩
        rw [e24]
        exact ih r (by omega) (by omega) r2 hsr (fun p' g1 g2 g3 => by
          by_cases hlt : p' < q + 1
          · exact all p' g1 hlt g3
          · exfalso
            have hn := spn.nest hPf p' q p' p0 (Nat.le_refl _) h1 h2 g1 (by omega) (by omega) hs g3
            have := spn.par hPf p' p' q r w (Nat.le_refl _) g1 (by omega) (by omega) r2 r3 hn (by omega)
            have := this.2
            omega)
      · have eq : q = D.bP (f + 1) - 1 := by omega
        have e24 : rd σ0 24 q = i32 (-1) := by rw [eq]; exact hff.2.2.1
        rw [e24]
        refine ⟨-1, ?_, .inl ⟨rfl, fun p g1 g2 g3 => all p g1 (by omega) g3⟩, by decide, by decide⟩
        rw [e357_8, i32_raw, c2_refl, e357_67, i32_raw]
    · refine ⟨(q : Int), ?_, .inr ⟨q, h1, h2, rfl, hs, fun k2 => hb (bt.mpr k2), hpr⟩, by omega, by omega⟩
      rw [go]
      have : pv_c1 .ne (pv_lcmp ((rl σ 187 (q - D.bP f) >>> shk k) &&& 1) 0) = false := by
        cases hh : pv_c1 .ne (pv_lcmp ((rl σ 187 (q - D.bP f) >>> shk k) &&& 1) 0) with
        | false => rfl
        | true => exact absurd ((bit_test hk _).mp hh) hb
      rw [this, cond_false]
theorem tight0_m {BT : Nat → Nat → Prop} {k : Nat} (hF : PGF D m) (hf : f ≤ D.fc) (hR : PGR D σ0 τ0) (hfm : frX [169, 171, 176, 186] [72, 94] [187, 188, 189] τ0 σ) (h90 : rd σ 123 90 = i32 ((1 : Nat) : Int)) (hB : ∀ p, D.bP f ≤ p → p < D.bP (f + 1) → LBt 187 (p - D.bP f) σ (BT p)) (hk : k < 60) {p0 : Nat} (hp1 : D.bP f ≤ p0) (hp2 : p0 < D.bP (f + 1)) (d : Nat) (v4 v5 : Value) :
    ∃ o : Int, rn L xs (d + 1) 357 0 [.ref 123, .int (i32 (f : Int)), .int (i32 (p0 : Int)), .int (i32 ((k + 1 : Nat) : Int)), v4, v5] [] σ = some (.inl (some (.int (i32 o))), σ) ∧ TGT D f (fun p => BT p k) p0 o ∧ -1 ≤ o ∧ o < 4101 := by
  have hPf := hF.2.2 f hf
  obtain ⟨o, a1, a2, a3⟩ := tight_m (L := L) (xs := xs) (σ := σ) hF hf hR hfm h90 hB hk hp1 hp2 d (.int (i32 (p0 : Int))) (.int (i32 ((k + 1 : Nat) : Int))) (D.bP (f + 1)) p0 (by omega) hp1 hp2 ⟨(hPf.2.2.1 p0 hp1 hp2).1.2.2.2, Nat.le_refl _⟩ (fun p' g1 g2 g3 => by have := g3.2; omega)
  refine ⟨o, ?_, a2, a3⟩
  rw [e357_0, show i32 ((k + 1 : Nat) : Int) - 1 = i32 (k : Int) by rw [show (1 : Int32) = i32 1 from rfl, i32_sub]; congr 1; omega]
  exact a1
/-- owners of numbers, as far as puts of parts ahead go -/
def OWk (D : pgD) (f : Nat) (r : Nat → Nat) (R : List Nat) (BT : Nat → Nat → Prop) (PS : Nat → Nat → Prop) (ow : Nat → Int) : Prop := ∀ k x : Nat, R[k]? = some x → (ow k = -2 ∧ ∀ q t, PS q t → r t ≠ x) ∨ ∃ q t, PS q t ∧ r t = x ∧ TGT D f (fun p => BT p k) q (ow k) ∧ -1 ≤ ow k ∧ ow k < 4101
/-- in the midst of it -/
def FOI (D : pgD) (f N : Nat) (G : tG) (r : Nat → Nat) (hl : Nat → List Nat) (hv : Nat → Nat) (H S : Nat) (R : List Nat) (BT : Nat → Nat → Prop) (PS : Nat → Nat → Prop) (ow : Nat → Int) (τ1 σ : tvS) : Prop := MZ N G r hl hv H S σ ∧ frM [169, 186] [] τ1 σ ∧ (∀ k, k < R.length → rd σ 186 k = i32 (ow k) ∧ -2 ≤ ow k ∧ ow k < 4101) ∧ OWk D f r R BT PS ow
theorem own_m {N : Nat} {G : tG} {r : Nat → Nat} {hl : Nat → List Nat} {hv : Nat → Nat} {H S t p : Nat} {R : List Nat} {BT : Nat → Nat → Prop} {PS : Nat → Nat → Prop} {ow : Nat → Int} (hF : PGF D m) (hf : f ≤ D.fc) (hR : PGR D σ0 τ0) (hfm : frX [169, 171, 176] [72, 94] [187, 188, 189] τ0 τ1) (h90 : R ≠ [] → rd τ1 123 90 = i32 ((1 : Nat) : Int)) (hB : R ≠ [] → ∀ p, D.bP f ≤ p → p < D.bP (f + 1) → LBt 187 (p - D.bP f) τ1 (BT p)) (hRl : R.length ≤ 60) (hnd : R.Nodup) (hnum : ∀ i x : Nat, R[i]? = some x → rd τ1 184 x = i32 ((i + 1 : Nat) : Int)) (hI : FOI D f N G r hl hv H S R BT PS ow τ1 σ) (ht : t < N) (htR : r t ∈ R) (hp1 : D.bP f ≤ p) (hp2 : p < D.bP (f + 1)) (d : Nat) :
    ∃ (s1 : tvS), rn L xs (d + 3) 337 0 [.ref 123, .int (i32 (t : Int)), jv, jv, jv] [] σ = some (.inl (some (.int (i32 (r t : Int)))), s1) ∧ r t < 100000 ∧ ∃ (σ' : tvS) (ow' : Nat → Int), rn L xs (d + 3) 356 0 [.ref 123, .int (i32 (f : Int)), .int (i32 (p : Int)), .int (rd s1 184 (r t))] [] s1 = some (.inl none, σ') ∧ FOI D f N G r hl hv H S R BT (fun q u => PS q u ∨ (q = p ∧ u = t)) ow' τ1 σ' := by
  have hne : R ≠ [] := fun e => by rw [e] at htR; cases htR
  have h90 := h90 hne
  have hB := hB hne
  obtain ⟨⟨i1, i2, i3⟩, i4, i5, i6⟩ := hI
  obtain ⟨s1, a1, a2, a3⟩ := find_M (L := L) (xs := xs) i1 ht (d + 2) jv jv jv
  have hN := i1.2.2.1
  have hrt := i1.rlt ht
  have w1 : frM [169, 186] [] τ1 s1 := i4.trans (a3.sub rfl rfl)
  obtain ⟨k, hk⟩ := List.getElem?_of_mem htR
  have hkl : k < R.length := (List.getElem?_eq_some_iff.mp hk).1
  have e184 : rd s1 184 (r t) = i32 ((k + 1 : Nat) : Int) := (w1.rd (j := 184) rfl _).trans (hnum k _ hk)
  obtain ⟨o1, o2, o3⟩ := i5 k hkl
  have e186 : rd s1 186 k = i32 (ow k) := (a3.rd (j := 186) rfl k).trans o1
  have ek : i32 ((k + 1 : Nat) : Int) - 1 = i32 (k : Int) := by rw [show (1 : Int32) = i32 1 from rfl, i32_sub]; congr 1; omega
  have em2 : (Int8.ofInt (-2)).toInt32 = i32 (-2) := by decide
  have hZ1 : MZ N G r hl hv H S s1 := ⟨a2, i2.fr a3 rfl ⟨rfl, rfl, rfl⟩, i3.fr a3 rfl ⟨rfl, rfl⟩⟩
  have uniq : ∀ i : Nat, R[i]? = some (r t) → i = k := fun i hi => nodup_at R i k _ hnd hi hk
  refine ⟨s1, a1, by omega, ?_⟩
  have go : rn L xs (d + 3) 356 0 [.ref 123, .int (i32 (f : Int)), .int (i32 (p : Int)), .int (rd s1 184 (r t))] [] s1 = cond (decide (¬ ow k = -2)) (rn L xs (d + 3) 356 28 [.ref 123, .int (i32 (f : Int)), .int (i32 (p : Int)), .int (i32 ((k + 1 : Nat) : Int))] [] s1) (bI (rn L xs (d + 2) 357 0 [.ref 123, .int (i32 (f : Int)), .int (i32 (p : Int)), .int (i32 ((k + 1 : Nat) : Int)), jv, jv] [] s1) (fun a2 s1 => cond (pv_in (i32 (k : Int)) 20000) (rn L xs (d + 3) 356 28 [.ref 123, .int (i32 (f : Int)), .int (i32 (p : Int)), .int (i32 ((k + 1 : Nat) : Int))] [] (wr s1 186 (ix (i32 (k : Int))) a2)) none) X0) := by
    rw [e184, e356_0, ek, c_in (by omega) (by omega) (by omega), i32_ixn (by omega), e186, em2, c2_ne (by omega) (by omega) (by omega) (by omega)]
  by_cases c : ow k = -2
  · obtain ⟨o, b1, b2, b3, b4⟩ := tight0_m (L := L) (xs := xs) (σ := s1) (BT := BT) hF hf hR ((hfm.sub rfl rfl rfl).trans ((w1.X [187, 188, 189]).sub rfl rfl rfl)) (by rw [w1.2 90 rfl]; exact h90) (fun p h1 h2 j hj => by rw [(w1.X []).2.2.1 187 rfl]; exact hB p h1 h2 j hj) (show k < 60 by omega) hp1 hp2 (d + 1) jv jv
    have w2 : frM [186] [] s1 (wr s1 186 k (i32 o)) := frM_wr rfl (by decide)
    obtain ⟨ow', w5, w6⟩ : ∃ ow' : Nat → Int, ow' k = o ∧ ∀ i, i ≠ k → ow' i = ow i := ⟨fun i => if i = k then o else ow i, if_pos rfl, fun i hi => if_neg hi⟩
    refine ⟨wr s1 186 k (i32 o), ow', ?_, hZ1.X (w2.X []) ⟨rfl, rfl, rfl⟩ ⟨rfl, rfl, rfl, rfl⟩ ⟨rfl, rfl, rfl⟩ ⟨rfl, rfl⟩, w1.trans (w2.sub rfl rfl), fun i hi => ?_, fun i x hx => ?_⟩
    · rw [go, decide_eq_false (fun q => q c), cond_false, bI_ok b1, c_in (by omega) (by omega) (by omega), i32_ixn (by omega)]
      exact e356_28 _ _ _ _ _ _
    · by_cases e : i = k
      · rw [e, wr_self, w5]; exact ⟨rfl, by omega, b4⟩
      · rw [wr_nei e, w6 i e, a3.rd (j := 186) rfl]; exact i5 i hi
    · by_cases e : i = k
      · rw [e] at hx
        have hx := Option.some.inj (hx.symm.trans hk)
        rw [e, w5]
        exact .inr ⟨p, t, .inr ⟨rfl, rfl⟩, hx.symm, b2, b3, b4⟩
      · rcases i6 i x hx with ⟨g1, g2⟩ | ⟨q, u, g1, g2, g3, g4⟩
        · refine .inl ⟨by rw [w6 i e]; exact g1, fun q u h => ?_⟩
          rcases h with h | ⟨_, h⟩
          · exact g2 q u h
          · rw [h]
            intro q'
            rw [← q'] at hx
            exact e (uniq i hx)
        · rw [w6 i e]
          exact .inr ⟨q, u, .inl g1, g2, g3, g4⟩
  · refine ⟨s1, ow, ?_, hZ1, w1, fun i hi => by rw [a3.rd (j := 186) rfl]; exact i5 i hi, fun i x hx => ?_⟩
    · rw [go, decide_eq_true c, cond_true, e356_28]
    · rcases i6 i x hx with ⟨g1, g2⟩ | ⟨q, u, g1, g2, g3, g4⟩
      · refine .inl ⟨g1, fun q u h => ?_⟩
        rcases h with h | ⟨_, h⟩
        · exact g2 q u h
        · rw [h]
          intro q'
          rw [← q'] at hx
          rw [uniq i hx] at g1
          exact c g1
      · exact .inr ⟨q, u, .inl g1, g2, g3, g4⟩
end TIGHT
