/-! REGIONS, THE MODEL: what a fn keeps -/
section KEEPOF
variable {L : Nat} {xs : Nat → Int32} {σ τ τ' τ0 τ2 : tvS} {D : pgD} {Gs : sgD} {m f N : Nat} {G : tG} {r : Nat → Nat} {R : List Nat} {ow : Nat → Int} {S0 S1 : Nat} {vs us sc : Nat → Nat} {cl : Nat → List Nat} {P e : Nat}
def nBt (n : Nat) : Int64 := (1 : Int64) <<< ((i32 (n : Int)).toInt64 &&& 63)
theorem nBt_all : ((List.range 61).all fun k => decide (nBt k = Int64.ofBitVec (BitVec.twoPow 64 k))) = true := by decide
theorem nBt_eq {k : Nat} (hk : k ≤ 60) : nBt k = Int64.ofBitVec (BitVec.twoPow 64 k) := of_decide_eq_true (List.all_eq_true.mp nBt_all k (List.mem_range.mpr (by omega)))
theorem nBt_bit {k j : Nat} (hk : k ≤ 60) (hj : j < 64) : bitL (nBt k) j ↔ j = k := by
  unfold bitL
  rw [nBt_eq hk]
  show (BitVec.twoPow 64 k).getLsbD j = true ↔ j = k
  rw [BitVec.getLsbD_twoPow]
  simp only [Bool.and_eq_true, decide_eq_true_eq]
  omega
def FKO : List Nat := [169, 196, 197, 198, 199, 200, 201]
/-- what stands while fns are asked what they keep -/
def KOD (D : pgD) (Gs : sgD) (m f N : Nat) (r : Nat → Nat) (R : List Nat) (S0 S1 : Nat) (vs us sc : Nat → Nat) (cl : Nat → List Nat) (ow : Nat → Int) (σ τ0 : tvS) : Prop :=
  PGF D m ∧ f ≤ D.fc ∧ PGR D σ τ0 ∧ TYm D f N τ0 ∧ CLm D Gs f N τ0 ∧ SCm D f S0 S1 vs us sc cl τ0 ∧ (R.length ≤ 60 ∧ (∀ i x : Nat, R[i]? = some x → rd τ0 184 x = i32 ((i + 1 : Nat) : Int) ∧ x < N) ∧ rd τ0 123 87 = i32 (R.length : Int) ∧ rd τ0 123 94 = i32 ((S0 + 1 : Nat) : Int)) ∧
  (∀ q i, D.bP f ≤ q → q < D.bP (f + 1) → i < D.np Gs f q → r (pnM D τ0 q i) ∈ R) ∧ (∀ k, k < R.length → rd τ0 186 k = i32 (ow k) ∧ -2 ≤ ow k ∧ ow k < 4101) ∧ KNM f R ow R.length τ0
/-- how many a part hands on, and which numbers -/
theorem many_m {q : Nat} (hK : KOD D Gs m f N r R S0 S1 vs us sc cl ow σ τ0) (w : frM FKO [103, 107] τ0 τ) (hT : TM N G r τ) (q1 : D.bP f ≤ q) (q2 : q < D.bP (f + 1)) (d : Nat) :
    ∃ (cnt : Nat) (nu : Nat → Nat), cnt ≤ 64 ∧ (∀ τ, frM FKO [103, 107] τ0 τ → rn L xs (d + 2) 368 0 [.ref 123, .int (i32 (f : Int)), .int (i32 (q : Int))] [] τ = some (.inl (some (.int (i32 (cnt : Int)))), τ)) ∧ (∀ i τ, i < cnt → frM FKO [103, 107] τ0 τ → TM N G r τ → nu i < R.length ∧ ∃ τ', rn L xs (d + 2) 369 0 [.ref 123, .int (i32 (f : Int)), .int (i32 (q : Int)), .int (i32 (i : Int)), jv] [] τ = some (.inl (some (.int (i32 ((nu i + 1 : Nat) : Int)))), τ') ∧ TM N G r τ' ∧ frM [169] [] τ τ') ∧
      ∀ k, (∃ i, i < cnt ∧ nu i = k) ↔ ((∃ i, i < D.np Gs f q ∧ R[k]? = some (r (pnM D τ0 q i))) ∨ (D.K q = 3 ∧ D.vl q = f ∧ k < R.length ∧ ow k = -1)) := by
  obtain ⟨hF, hf, hR, hty, hcl, hsc, ⟨r1, r2, r3, r4⟩, hin, how, hkn⟩ := hK
  have hb4 := hF.1
  have hbl := (hF.le (D.fc + 1 - (f + 1)) (f + 1) (by omega))
  have hPq := (hF.2.2 f hf).2.2.1 q q1 q2
  have hRq := hR.2 q (by omega)
  have hkq := mKd3 (D.K q) (by have := hPq.1.1; omega)
  have uk : ∀ k k' x : Nat, R[k]? = some x → R[k']? = some x → k = k' := fun k k' x h1 h2 => by
    have b1 := (r2 k x h1).1
    rw [(r2 k' x h2).1] at b1
    have l1 : k < R.length := (List.getElem?_eq_some_iff.mp h1).1
    have l2 : k' < R.length := (List.getElem?_eq_some_iff.mp h2).1
    have := (i32_inj (by omega) (by omega) (by omega) (by omega)).mp b1
    omega
  obtain ⟨g, hg⟩ : ∃ g : Nat → Nat, ∀ i, i < D.np Gs f q → R[g i]? = some (r (pnM D τ0 q i)) := by
    have h : ∀ i, ∃ k, i < D.np Gs f q → R[k]? = some (r (pnM D τ0 q i)) := fun i => by
      by_cases hi : i < D.np Gs f q
      · obtain ⟨k, hk⟩ := List.getElem?_of_mem (hin q i q1 q2 hi)
        exact ⟨k, fun _ => hk⟩
      · exact ⟨0, fun h => absurd h hi⟩
    exact Classical.skolem.mp h
  have isp : ∀ τ, frM FKO [103, 107] τ0 τ → _ := fun τ w => isPut_m (L := L) (xs := xs) (σ := τ) hF hf hR (w.rd (j := 151) rfl q) q1 q2 d
  have e151 : ∀ τ, frM FKO [103, 107] τ0 τ → rd τ 151 q = i32 (mKd (D.K q) : Int) := fun τ w => (w.rd (j := 151) rfl q).trans hRq.1.2.1
  have fnd : ∀ τ x (k : Nat), frM FKO [103, 107] τ0 τ → TM N G r τ → x < N → R[k]? = some (r x) → ∃ s1, rn L xs (d + 1) 337 0 [.ref 123, .int (i32 (x : Int)), jv, jv, jv] [] τ = some (.inl (some (.int (i32 (r x : Int)))), s1) ∧ TM N G r s1 ∧ frM [169] [] τ s1 ∧ rd s1 184 (r x) = i32 ((k + 1 : Nat) : Int) ∧ r x < 100000 := fun τ x k w hT hx hk => by
    obtain ⟨s1, a1, a2, a3⟩ := find_M (L := L) (xs := xs) hT hx d jv jv jv
    refine ⟨s1, a1, a2, a3, ?_, ?_⟩
    · rw [a3.rd (j := 184) rfl, w.rd (j := 184) rfl]; exact (r2 k _ hk).1
    · have := hT.rlt hx; have := hT.2.2.1; omega
  by_cases p1 : D.K q = 4 ∨ D.K q = 16 ∨ D.K q = 17
  · have hnp : D.np Gs f q = 1 := by unfold pgD.np; rw [if_pos p1]
    have hpn : ∀ i, pnM D τ0 q i = oM τ0 q := fun i => by unfold pnM; rw [if_pos p1]
    obtain ⟨t1, t2⟩ := hty.1 q q1 q2
    refine ⟨1, g, by omega, fun τ w => ?_, fun i τ hi w hT => ?_, fun k => ?_⟩
    · obtain ⟨y, y1, y2⟩ := isp τ w
      rcases y2 with ⟨k1, _⟩ | ⟨_, k2⟩
      · rw [e368_0 (d + 1), bI_ok y1, k1, show pv_c1 .eq (1 : Int32) = false from rfl, cond_false, e368_37]; rfl
      · exact absurd p1 k2
    · have hgi := hg i (by omega)
      refine ⟨(List.getElem?_eq_some_iff.mp hgi).1, ?_⟩
      rw [hpn] at hgi
      obtain ⟨y, y1, y2⟩ := isp τ w
      obtain ⟨s1, a1, a2, a3, a4, a5⟩ := fnd τ (oM τ0 q) (g i) w hT t2 hgi
      refine ⟨s1, ?_, a2, a3⟩
      rcases y2 with ⟨k1, _⟩ | ⟨_, k2⟩
      · rw [e369_0 (d + 1), bI_ok y1, k1, show pv_c1 .eq (1 : Int32) = false from rfl, cond_false, c_in (by omega) (by omega) (by omega), i32_ixn (by omega), w.rd (j := 178) rfl, t1, bI_ok a1, c_in (by omega) (by omega) (by omega), i32_ixn (by omega), a4]
      · exact absurd p1 k2
    · constructor
      · rintro ⟨i, i1, i2⟩
        exact .inl ⟨i, by omega, by rw [← i2]; exact hg i (by omega)⟩
      · rintro (⟨i, i1, i2⟩ | ⟨k3, _⟩)
        · exact ⟨i, by omega, uk _ _ _ (hg i i1) i2⟩
        · omega
  · by_cases p3 : D.K q = 3
    · have hvle := (hPq.2.2.2.1 p3).2.1
      have e157 : ∀ τ, frM FKO [103, 107] τ0 τ → rd τ 157 q = i32 (D.vl q : Int) := fun τ w => (w.rd (j := 157) rfl q).trans (hRq.2.2.2.2.1 (.inr (.inl p3))).2
      have m368 : ∀ (cnt : Nat) τ, frM FKO [103, 107] τ0 τ → rd τ 191 (D.vl q) = i32 (cnt : Int) → rn L xs (d + 2) 368 0 [.ref 123, .int (i32 (f : Int)), .int (i32 (q : Int))] [] τ = some (.inl (some (.int (i32 (cnt : Int)))), τ) := fun cnt τ w h => by
        obtain ⟨y, y1, y2⟩ := isp τ w
        rcases y2 with ⟨_, k2⟩ | ⟨k1, _⟩
        · exact absurd k2 p1
        · rw [e368_0 (d + 1), bI_ok y1, k1, show pv_c1 .eq (0 : Int32) = true from rfl, cond_true, e368_12, c_in (by omega) (by omega) (by omega), i32_ixn (by omega), e151 τ w, show (4 : Int32) = i32 4 from rfl, hkq.2.1.mpr p3, c2_ne (by omega) (by omega) (by omega) (by omega), c_f (by omega), c_in (by omega) (by omega) (by omega), e157 τ w, c_in (by omega) (by omega) (by omega), i32_ixn (by omega), h, e368_37]
      by_cases pf : D.vl q = f
      · -- itself
        have hnp : D.np Gs f q = 0 := by unfold pgD.np; rw [if_neg p1, if_neg (by omega)]
        obtain ⟨n1, n2, n3⟩ := id hkn
        have hlen := nfil_len (mk := fun k => ow k = -1) R.length
        refine ⟨(nfil (fun k => ow k = -1) R.length).length, fun i => (nfil (fun k => ow k = -1) R.length).getD i 0 - 1, by omega, fun τ w => m368 _ τ w (by rw [pf, w.rd (j := 191) rfl]; exact n1), fun i τ hi w hT => ?_, fun k => ?_⟩
        · have hmem : (nfil (fun k => ow k = -1) R.length).getD i 0 ∈ nfil (fun k => ow k = -1) R.length := by
            rw [List.getD_eq_getElem?_getD, List.getElem?_eq_getElem hi]
            exact List.getElem_mem _
          obtain ⟨j, j1, j2, j3⟩ := (nfil_mem _).mp hmem
          refine ⟨by show _ - 1 < _; omega, τ, ?_, hT, frM.refl⟩
          obtain ⟨y, y1, y2⟩ := isp τ w
          rcases y2 with ⟨_, k2⟩ | ⟨k1, _⟩
          · exact absurd k2 p1
          · have ei : 64 * i32 (f : Int) + i32 (i : Int) = i32 ((64 * f + i : Nat) : Int) := by
              rw [show (64 : Int32) = i32 64 from rfl, i32_mul, i32_add]; congr 1
            rw [e369_0 (d + 1), bI_ok y1, k1, show pv_c1 .eq (0 : Int32) = true from rfl, cond_true, e369_24, c_in (by omega) (by omega) (by omega), i32_ixn (by omega), e157 τ w, pf, c2_ne (by omega) (by omega) (by omega) (by omega), c_f (by omega), ei, c_in (by omega) (by omega) (by omega), i32_ixn (by omega), w.rd (j := 192) rfl, n2 i hi, e369_84]
            show _ = some (Sum.inl (some (Value.int (i32 (((nfil (fun k => ow k = -1) R.length).getD i 0 - 1 + 1 : Nat) : Int)))), τ)
            rw [show (nfil (fun k => ow k = -1) R.length).getD i 0 - 1 + 1 = (nfil (fun k => ow k = -1) R.length).getD i 0 by omega]
        · constructor
          · rintro ⟨i, i1, i2⟩
            have hmem : (nfil (fun k => ow k = -1) R.length).getD i 0 ∈ nfil (fun k => ow k = -1) R.length := by
              rw [List.getD_eq_getElem?_getD, List.getElem?_eq_getElem i1]
              exact List.getElem_mem _
            obtain ⟨j, j1, j2, j3⟩ := (nfil_mem _).mp hmem
            have i2 : (nfil (fun k => ow k = -1) R.length).getD i 0 - 1 = k := i2
            have ejk : j = k := by omega
            rw [ejk] at j1 j2
            exact .inr ⟨p3, pf, j1, j2⟩
          · rintro (⟨i, i1, _⟩ | ⟨_, _, k1, k2⟩)
            · omega
            · obtain ⟨i, hi⟩ := List.getElem?_of_mem ((nfil_mem (mk := fun k => ow k = -1) (x := k + 1) R.length).mpr ⟨k, k1, k2, rfl⟩)
              have hil := (List.getElem?_eq_some_iff.mp hi).1
              refine ⟨i, hil, ?_⟩
              show (nfil (fun k => ow k = -1) R.length).getD i 0 - 1 = k
              rw [List.getD_eq_getElem?_getD, hi]; rfl
      · -- an older one
        have hlt : D.vl q < f := by omega
        have hnp : D.np Gs f q = Gs.ng (D.vl q) := by unfold pgD.np; rw [if_neg p1, if_pos ⟨p3, hlt⟩]
        have hpn : ∀ i, pnM D τ0 q i = cM τ0 q (D.bk (D.vl q) + 1 + i) := fun i => by unfold pnM; rw [if_neg p1]
        obtain ⟨n1, c1, c2, c3, c4, c5⟩ := hcl q q1 q2 p3 hlt
        have hcn : D.cn Gs q = D.bk (D.vl q) + 1 + Gs.ng (D.vl q) := rfl
        have hkk := (hF.2.2 (D.vl q) (by omega)).1.2.2.2
        have e140 := (hR.1 (D.vl q) (by omega)).2.1.1
        refine ⟨Gs.ng (D.vl q), g, by omega, fun τ w => m368 _ τ w (by rw [w.rd (j := 191) rfl]; exact c4), fun i τ hi w hT => ?_, fun k => ?_⟩
        · have hgi := hg i (by omega)
          refine ⟨(List.getElem?_eq_some_iff.mp hgi).1, ?_⟩
          obtain ⟨d1, d2⟩ := c3 (D.bk (D.vl q) + 1 + i) (by omega)
          have t2 : pnM D τ0 q i < N := by rw [hpn]; exact d2
          obtain ⟨y, y1, y2⟩ := isp τ w
          obtain ⟨s1, a1, a2, a3, a4, a5⟩ := fnd τ (pnM D τ0 q i) (g i) w hT t2 hgi
          refine ⟨s1, ?_, a2, a3⟩
          have ei : i32 (n1 : Int) + i32 (D.bk (D.vl q) : Int) + 1 + i32 (i : Int) = i32 ((n1 + (D.bk (D.vl q) + 1 + i) : Nat) : Int) := by
            rw [show (1 : Int32) = i32 1 from rfl, i32_add, i32_add, i32_add]; congr 1; omega
          have hval : rd τ 182 (n1 + (D.bk (D.vl q) + 1 + i)) = i32 (pnM D τ0 q i : Int) := by rw [w.rd (j := 182) rfl, d1, hpn]
          rcases y2 with ⟨_, k2⟩ | ⟨k1, _⟩
          · exact absurd k2 p1
          · rw [e369_0 (d + 1), bI_ok y1, k1, show pv_c1 .eq (0 : Int32) = true from rfl, cond_true, e369_24, c_in (by omega) (by omega) (by omega), i32_ixn (by omega), e157 τ w, c2_ne (by omega) (by omega) (by omega) (by omega), c_t (by omega), e369_52 (d + 1), c_in (by omega) (by omega) (by omega), c_in (by omega) (by omega) (by omega), i32_ixn (by omega), i32_ixn (by omega), w.rd (j := 181) rfl, w.rd (j := 140) rfl, c1, e140, ei, c_in (by omega) (by omega) (by omega), i32_ixn (by omega), hval, bI_ok a1, c_in (by omega) (by omega) (by omega), i32_ixn (by omega), a4, e369_84]
        · constructor
          · rintro ⟨i, i1, i2⟩
            exact .inl ⟨i, by omega, by rw [← i2]; exact hg i (by omega)⟩
          · rintro (⟨i, i1, i2⟩ | ⟨_, k3, _⟩)
            · exact ⟨i, by omega, uk _ _ _ (hg i i1) i2⟩
            · exact absurd k3 pf
    · have hnp : D.np Gs f q = 0 := by unfold pgD.np; rw [if_neg p1, if_neg (fun h => p3 h.1)]
      refine ⟨0, g, by omega, fun τ w => ?_, fun i τ hi => by omega, fun k => ?_⟩
      · obtain ⟨y, y1, y2⟩ := isp τ w
        rcases y2 with ⟨_, k2⟩ | ⟨k1, _⟩
        · exact absurd k2 p1
        · rw [e368_0 (d + 1), bI_ok y1, k1, show pv_c1 .eq (0 : Int32) = true from rfl, cond_true, e368_12, c_in (by omega) (by omega) (by omega), i32_ixn (by omega), e151 τ w, show (4 : Int32) = i32 4 from rfl, c2_ne (by omega) (by omega) (by omega) (by omega), c_t (show ¬ (mKd (D.K q) : Int) = 4 from fun h => p3 (hkq.2.1.mp (by omega))), e368_36, e368_37]; rfl
      · constructor
        · rintro ⟨i, i1, _⟩; omega
        · rintro (⟨i, i1, _⟩ | ⟨k3, _⟩)
          · omega
          · exact absurd k3 p3
end KEEPOF
