/-! READING: parts of two and three, the model -/
section FORM
variable {L : Nat} {xs : Nat → Int32} {K1 K2 m : Nat} {μ : Nat → Nat} {g fc : Nat} {sc : List Nat} {fs fs' : List (Nat × Nat × List Nat)} {F D H n A P r r0 : Nat} {σ τ σ' τ' σ1 τ1 : tvS}
theorem nodM.new {f l x : Int32} : nodM τ (mNew τ P x f l) P x f l P [] := nodM.zero
theorem m3_run {c1 c2 c3 s1 s2 s3 : Nat} {x f w : Int32} (hr : rd τ 123 22 = i32 (r + 3 : Nat)) (hr2 : r + 3 ≤ 5999) (hP : rd τ 123 46 = i32 P) (hlt : P < 6000) (h1 : rd τ 135 r = i32 c1) (h2 : rd τ 135 (r + 1) = i32 c2) (h3 : rd τ 135 (r + 2) = i32 c3) (hc1 : c1 < c2) (hc2 : c2 < c3) (hc3 : c3 < P) (e1 : rd τ 161 c1 = i32 s1) (e2 : rd τ 161 c2 = i32 s2) (e3 : rd τ 161 c3 = i32 s3) (hs1 : s1 ≤ c1) (hs2 : s1 ≤ s2) (hs3 : s2 ≤ c2) (hs4 : s1 ≤ s3) (hs5 : s3 ≤ c3) :
    ∃ τ1, nodM τ τ1 P x f (rd τ 137 (r + 2)) s1 [c1, c2, c3] ∧ rd τ1 154 P = i32 c1 ∧ rd τ1 155 P = i32 c2 ∧ rd τ1 156 P = i32 c3 ∧ rd τ1 157 P = w ∧
      ∀ (d : Nat) (v1 v5 : Value), rn L xs (d + 4) 329 60 [.ref 123, v1, .int f, .int w, .int 3, v5] [.int x, .ref 123] τ = some (.inl none, mBec τ1 r P) := by
  have z0 := nodM.new (τ := τ) (P := P) (f := f) (l := rd τ 137 (r + 2)) (x := x)
  have a161 := (mNew_at (τ := τ) (P := P) (κ := x) (f := f) (l := rd τ 137 (r + 2))).2.2.2.2.2.2.2.2.2.2.1
  have o0 : ∀ j i, ¬ (i = P ∧ 151 ≤ j ∧ j ≤ 163) → ¬ (j = 123 ∧ i = 46) → rd (mNew τ P x f (rd τ 137 (r + 2))) j i = rd τ j i := fun j i h1 h2 => by
    by_cases hi : i = P
    · exact mNew_oth (by omega) (by omega)
    · exact mNew_old hi (by omega)
  have run0 := fun d => mnew_ok (L := L) (xs := xs) hP hlt d x f (rd τ 137 (r + 2))
  generalize mNew τ P x f (rd τ 137 (r + 2)) = t0 at z0 a161 o0 run0
  have z1 := (((z0.wr (j := 157) (v := w) (by omega) (by omega)).wr (j := 154) (v := i32 c1) (by omega) (by omega)).wr (j := 155) (v := i32 c2) (by omega) (by omega)).wr (j := 156) (v := i32 c3) (by omega) (by omega)
  have oA : ∀ j i, ¬ (i = P ∧ 151 ≤ j ∧ j ≤ 163) → ¬ (j = 123 ∧ i = 46) → rd (wr t0 157 P w) j i = rd τ j i := fun j i h1 h2 => by rw [rd_wr, if_neg (by omega)]; exact o0 j i h1 h2
  have oB : ∀ j i, ¬ (i = P ∧ 151 ≤ j ∧ j ≤ 163) → ¬ (j = 123 ∧ i = 46) → rd (wr (wr t0 157 P w) 154 P (i32 c1)) j i = rd τ j i := fun j i h1 h2 => by rw [rd_wr, if_neg (by omega)]; exact oA j i h1 h2
  have oC : ∀ j i, ¬ (i = P ∧ 151 ≤ j ∧ j ≤ 163) → ¬ (j = 123 ∧ i = 46) → rd (wr (wr (wr t0 157 P w) 154 P (i32 c1)) 155 P (i32 c2)) j i = rd τ j i := fun j i h1 h2 => by rw [rd_wr, if_neg (by omega)]; exact oB j i h1 h2
  have o1 : ∀ j i, ¬ (i = P ∧ 151 ≤ j ∧ j ≤ 163) → ¬ (j = 123 ∧ i = 46) → rd (wr (wr (wr (wr t0 157 P w) 154 P (i32 c1)) 155 P (i32 c2)) 156 P (i32 c3)) j i = rd τ j i := fun j i h1 h2 => by rw [rd_wr, if_neg (by omega)]; exact oC j i h1 h2
  have p154 : rd (wr (wr (wr (wr t0 157 P w) 154 P (i32 c1)) 155 P (i32 c2)) 156 P (i32 c3)) 154 P = i32 c1 := by rw [wr_nek (by omega), wr_nek (by omega), wr_self]
  have p155 : rd (wr (wr (wr (wr t0 157 P w) 154 P (i32 c1)) 155 P (i32 c2)) 156 P (i32 c3)) 155 P = i32 c2 := by rw [wr_nek (by omega), wr_self]
  have p156 : rd (wr (wr (wr (wr t0 157 P w) 154 P (i32 c1)) 155 P (i32 c2)) 156 P (i32 c3)) 156 P = i32 c3 := by rw [wr_self]
  have p157 : rd (wr (wr (wr (wr t0 157 P w) 154 P (i32 c1)) 155 P (i32 c2)) 156 P (i32 c3)) 157 P = w := by rw [wr_nek (by omega), wr_nek (by omega), wr_nek (by omega), wr_self]
  have p161 : rd (wr (wr (wr (wr t0 157 P w) 154 P (i32 c1)) 155 P (i32 c2)) 156 P (i32 c3)) 161 P = i32 P := by rw [wr_nek (by omega), wr_nek (by omega), wr_nek (by omega), wr_nek (by omega)]; exact a161
  have runs : ∀ (d : Nat) (v1 v5 : Value), rn L xs (d + 4) 329 60 [.ref 123, v1, .int f, .int w, .int 3, v5] [.int x, .ref 123] τ = rn L xs (d + 4) 329 134 [.ref 123, dj (dj (dj (dj v1))), .int f, .int w, .int 3, .int (i32 P)] [.int (i32 c3), .int (i32 P), .ref 156] (wr (wr (wr t0 157 P w) 154 P (i32 c1)) 155 P (i32 c2)) := fun d v1 v5 => by
    rw [e329_60 (d + 3), hr, i32_s1 (by omega), show r + 3 - 1 = r + 2 by omega, c_in (by omega) (by omega) (by omega), i32_ixn (by omega), bI_ok (run0 (d + 2)), c_in (by omega) (by omega) (by omega), i32_ixn (by omega),
      bI_ok (mchild (x := 3) (k := 3) (r := r + 3) rfl ((oA _ _ (by omega) (by omega)).trans hr) (by omega) (by omega) (by omega) (d + 2)), show r + 3 - 3 = r by omega, oA 135 r (by omega) (by omega), h1, c_in (by omega) (by omega) (by omega),
      bI_ok (mchild (x := 3 - 1) (k := 2) (r := r + 3) rfl ((oB _ _ (by omega) (by omega)).trans hr) (by omega) (by omega) (by omega) (d + 2)), show r + 3 - 2 = r + 1 by omega, oB 135 (r + 1) (by omega) (by omega), h2, c_in (by omega) (by omega) (by omega), show pv_c2 .ne (3 : Int32) 3 = false from rfl, cond_false,
      bI_ok (mchild (x := 1) (k := 1) (r := r + 3) rfl ((oC _ _ (by omega) (by omega)).trans hr) (by omega) (by omega) (by omega) (d + 2)), show r + 3 - 1 = r + 2 by omega, oC 135 (r + 2) (by omega) (by omega), h3]
  have q1 : rd (wr (wr (wr (wr t0 157 P w) 154 P (i32 c1)) 155 P (i32 c2)) 156 P (i32 c3)) 161 c1 = i32 s1 := (o1 161 c1 (by omega) (by omega)).trans e1
  have q2 : rd (wr (wr (wr (wr t0 157 P w) 154 P (i32 c1)) 155 P (i32 c2)) 156 P (i32 c3)) 161 c2 = i32 s2 := (o1 161 c2 (by omega) (by omega)).trans e2
  have q3 : rd (wr (wr (wr (wr t0 157 P w) 154 P (i32 c1)) 155 P (i32 c2)) 156 P (i32 c3)) 161 c3 = i32 s3 := (o1 161 c3 (by omega) (by omega)).trans e3
  have q22 : rd (wr (wr (wr (wr t0 157 P w) 154 P (i32 c1)) 155 P (i32 c2)) 156 P (i32 c3)) 123 22 = i32 (r + 3 : Nat) := (o1 _ _ (by omega) (by omega)).trans hr
  have hwr : wr (wr (wr (wr t0 157 P w) 154 P (i32 c1)) 155 P (i32 c2)) 156 P (i32 c3) = wr (wr (wr (wr t0 157 P w) 154 P (i32 c1)) 155 P (i32 c2)) 156 P (i32 c3) := rfl
  generalize hT : wr (wr (wr (wr t0 157 P w) 154 P (i32 c1)) 155 P (i32 c2)) 156 P (i32 c3) = T at z1 p154 p155 p156 p157 p161 q1 q2 q3 q22
  have za := z1.add (c := c1) (st' := s1) (by omega) (by simp)
  have zb := za.add (c := c2) (st' := s1) (by omega) (by simp; omega)
  have zc := zb.add (c := c3) (st' := s1) (by omega) (by simp; omega)
  have k1 := fun d => mund_ok (L := L) (xs := xs) (p := P) (c := c1) (sp := P) (sx := s1) hlt (by omega) (by omega) p161 q1 hlt (by omega) d
  have k2 := fun d => mund_ok (L := L) (xs := xs) (τ := mUnd T P c1 s1) (p := P) (c := c2) (sp := s1) (sx := s2) hlt (by omega) (by omega) mUnd_at.2 ((mUnd_oth (by omega) (by omega)).trans q2) (by omega) (by omega) d
  have k3 := fun d => mund_ok (L := L) (xs := xs) (τ := mUnd (mUnd T P c1 s1) P c2 s1) (p := P) (c := c3) (sp := s1) (sx := s3) hlt (by omega) (by omega) mUnd_at.2 ((mUnd_oth (by omega) (by omega)).trans ((mUnd_oth (by omega) (by omega)).trans q3)) (by omega) (by omega) d
  rw [show min P s1 = s1 by omega] at k1
  rw [show min s1 s2 = s1 by omega] at k2
  rw [show min s1 s3 = s1 by omega] at k3
  have ou : ∀ j, j ≠ 159 → j ≠ 161 → ∀ i, rd (mUnd (mUnd (mUnd T P c1 s1) P c2 s1) P c3 s1) j i = rd T j i := fun j h1 h2 i => (mUnd_oth (by omega) (by omega)).trans ((mUnd_oth (by omega) (by omega)).trans (mUnd_oth (by omega) (by omega)))
  refine ⟨mUnd (mUnd (mUnd T P c1 s1) P c2 s1) P c3 s1, zc, (ou 154 (by omega) (by omega) P).trans p154, (ou 155 (by omega) (by omega) P).trans p155, (ou 156 (by omega) (by omega) P).trans p156, (ou 157 (by omega) (by omega) P).trans p157, fun d v1 v5 => ?_⟩
  rw [runs, e329_134 (d + 3), c_in (by omega) (by omega) (by omega), c_in (by omega) (by omega) (by omega), i32_ixn (by omega), hT]
  have p154' : rd (wr (wr (wr t0 157 P w) 154 P (i32 c1)) 155 P (i32 c2)) 154 P = i32 c1 := by rw [wr_nek (by omega), wr_self]
  first
    | rw [p154', bV_ok (k1 (d + 2))]
    | rw [p154, bV_ok (k1 (d + 2))]
  rw [c_in (by omega) (by omega) (by omega), mUnd_oth (by omega) (by omega), p155, bV_ok (k2 (d + 2)), show pv_c2 .ne (3 : Int32) 3 = false from rfl, cond_false, c_in (by omega) (by omega) (by omega), mUnd_oth (by omega) (by omega), mUnd_oth (by omega) (by omega), p156, bV_ok (k3 (d + 2)), e329_180 (d + 3), bV_ok (mbec (x := 3) (k := 3) rfl ((ou 123 (by omega) (by omega) 22).trans q22) (by omega) hlt (d + 1))]
theorem m2_run {c1 c2 s1 s2 : Nat} {x f w : Int32} (hr : rd τ 123 22 = i32 (r + 2 : Nat)) (hr2 : r + 2 ≤ 5999) (hP : rd τ 123 46 = i32 P) (hlt : P < 6000) (h1 : rd τ 135 r = i32 c1) (h2 : rd τ 135 (r + 1) = i32 c2) (hc1 : c1 < c2) (hc2 : c2 < P) (e1 : rd τ 161 c1 = i32 s1) (e2 : rd τ 161 c2 = i32 s2) (hs1 : s1 ≤ c1) (hs2 : s1 ≤ s2) (hs3 : s2 ≤ c2) :
    ∃ τ1, nodM τ τ1 P x f (rd τ 137 (r + 1)) s1 [c1, c2] ∧ rd τ1 154 P = i32 c1 ∧ rd τ1 155 P = i32 c2 ∧ rd τ1 156 P = i32 (-1) ∧ rd τ1 157 P = w ∧
      ∀ (d : Nat) (v1 v5 : Value), rn L xs (d + 4) 329 60 [.ref 123, v1, .int f, .int w, .int 2, v5] [.int x, .ref 123] τ = some (.inl none, mBec τ1 r P) := by
  have z0 := nodM.new (τ := τ) (P := P) (f := f) (l := rd τ 137 (r + 1)) (x := x)
  have a161 := (mNew_at (τ := τ) (P := P) (κ := x) (f := f) (l := rd τ 137 (r + 1))).2.2.2.2.2.2.2.2.2.2.1
  have o0 : ∀ j i, ¬ (i = P ∧ 151 ≤ j ∧ j ≤ 163) → ¬ (j = 123 ∧ i = 46) → rd (mNew τ P x f (rd τ 137 (r + 1))) j i = rd τ j i := fun j i h1 h2 => by
    by_cases hi : i = P
    · exact mNew_oth (by omega) (by omega)
    · exact mNew_old hi (by omega)
  have run0 := fun d => mnew_ok (L := L) (xs := xs) hP hlt d x f (rd τ 137 (r + 1))
  generalize mNew τ P x f (rd τ 137 (r + 1)) = t0 at z0 a161 o0 run0
  have z1 := (((z0.wr (j := 157) (v := w) (by omega) (by omega)).wr (j := 154) (v := i32 c1) (by omega) (by omega)).wr (j := 155) (v := i32 c2) (by omega) (by omega)).wr (j := 156) (v := i32 (-1)) (by omega) (by omega)
  have oA : ∀ j i, ¬ (i = P ∧ 151 ≤ j ∧ j ≤ 163) → ¬ (j = 123 ∧ i = 46) → rd (wr t0 157 P w) j i = rd τ j i := fun j i h1 h2 => by rw [rd_wr, if_neg (by omega)]; exact o0 j i h1 h2
  have oB : ∀ j i, ¬ (i = P ∧ 151 ≤ j ∧ j ≤ 163) → ¬ (j = 123 ∧ i = 46) → rd (wr (wr t0 157 P w) 154 P (i32 c1)) j i = rd τ j i := fun j i h1 h2 => by rw [rd_wr, if_neg (by omega)]; exact oA j i h1 h2
  have oC : ∀ j i, ¬ (i = P ∧ 151 ≤ j ∧ j ≤ 163) → ¬ (j = 123 ∧ i = 46) → rd (wr (wr (wr t0 157 P w) 154 P (i32 c1)) 155 P (i32 c2)) j i = rd τ j i := fun j i h1 h2 => by rw [rd_wr, if_neg (by omega)]; exact oB j i h1 h2
  have o1 : ∀ j i, ¬ (i = P ∧ 151 ≤ j ∧ j ≤ 163) → ¬ (j = 123 ∧ i = 46) → rd (wr (wr (wr (wr t0 157 P w) 154 P (i32 c1)) 155 P (i32 c2)) 156 P (i32 (-1))) j i = rd τ j i := fun j i h1 h2 => by rw [rd_wr, if_neg (by omega)]; exact oC j i h1 h2
  have p154 : rd (wr (wr (wr (wr t0 157 P w) 154 P (i32 c1)) 155 P (i32 c2)) 156 P (i32 (-1))) 154 P = i32 c1 := by rw [wr_nek (by omega), wr_nek (by omega), wr_self]
  have p155 : rd (wr (wr (wr (wr t0 157 P w) 154 P (i32 c1)) 155 P (i32 c2)) 156 P (i32 (-1))) 155 P = i32 c2 := by rw [wr_nek (by omega), wr_self]
  have p156 : rd (wr (wr (wr (wr t0 157 P w) 154 P (i32 c1)) 155 P (i32 c2)) 156 P (i32 (-1))) 156 P = i32 (-1) := by rw [wr_self]
  have p157 : rd (wr (wr (wr (wr t0 157 P w) 154 P (i32 c1)) 155 P (i32 c2)) 156 P (i32 (-1))) 157 P = w := by rw [wr_nek (by omega), wr_nek (by omega), wr_nek (by omega), wr_self]
  have p161 : rd (wr (wr (wr (wr t0 157 P w) 154 P (i32 c1)) 155 P (i32 c2)) 156 P (i32 (-1))) 161 P = i32 P := by rw [wr_nek (by omega), wr_nek (by omega), wr_nek (by omega), wr_nek (by omega)]; exact a161
  have runs : ∀ (d : Nat) (v1 v5 : Value), rn L xs (d + 4) 329 60 [.ref 123, v1, .int f, .int w, .int 2, v5] [.int x, .ref 123] τ = rn L xs (d + 4) 329 134 [.ref 123, dj (dj (dj v1)), .int f, .int w, .int 2, .int (i32 P)] [.int (i32 (-1)), .int (i32 P), .ref 156] (wr (wr (wr t0 157 P w) 154 P (i32 c1)) 155 P (i32 c2)) := fun d v1 v5 => by
    rw [e329_60 (d + 3), hr, i32_s1 (by omega), show r + 2 - 1 = r + 1 by omega, c_in (by omega) (by omega) (by omega), i32_ixn (by omega), bI_ok (run0 (d + 2)), c_in (by omega) (by omega) (by omega), i32_ixn (by omega),
      bI_ok (mchild (x := 2) (k := 2) (r := r + 2) rfl ((oA _ _ (by omega) (by omega)).trans hr) (by omega) (by omega) (by omega) (d + 2)), show r + 2 - 2 = r by omega, oA 135 r (by omega) (by omega), h1, c_in (by omega) (by omega) (by omega),
      bI_ok (mchild (x := 2 - 1) (k := 1) (r := r + 2) rfl ((oB _ _ (by omega) (by omega)).trans hr) (by omega) (by omega) (by omega) (d + 2)), show r + 2 - 1 = r + 1 by omega, oB 135 (r + 1) (by omega) (by omega), h2, c_in (by omega) (by omega) (by omega), show pv_c2 .ne (2 : Int32) 3 = true from rfl, cond_true, e329_133]
    rfl
  have q1 : rd (wr (wr (wr (wr t0 157 P w) 154 P (i32 c1)) 155 P (i32 c2)) 156 P (i32 (-1))) 161 c1 = i32 s1 := (o1 161 c1 (by omega) (by omega)).trans e1
  have q2 : rd (wr (wr (wr (wr t0 157 P w) 154 P (i32 c1)) 155 P (i32 c2)) 156 P (i32 (-1))) 161 c2 = i32 s2 := (o1 161 c2 (by omega) (by omega)).trans e2
  have q22 : rd (wr (wr (wr (wr t0 157 P w) 154 P (i32 c1)) 155 P (i32 c2)) 156 P (i32 (-1))) 123 22 = i32 (r + 2 : Nat) := (o1 _ _ (by omega) (by omega)).trans hr
  generalize hT : wr (wr (wr (wr t0 157 P w) 154 P (i32 c1)) 155 P (i32 c2)) 156 P (i32 (-1)) = T at z1 p154 p155 p156 p157 p161 q1 q2 q22
  have za := z1.add (c := c1) (st' := s1) (by omega) (by simp)
  have zb := za.add (c := c2) (st' := s1) (by omega) (by simp; omega)
  have k1 := fun d => mund_ok (L := L) (xs := xs) (p := P) (c := c1) (sp := P) (sx := s1) hlt (by omega) (by omega) p161 q1 hlt (by omega) d
  have k2 := fun d => mund_ok (L := L) (xs := xs) (τ := mUnd T P c1 s1) (p := P) (c := c2) (sp := s1) (sx := s2) hlt (by omega) (by omega) mUnd_at.2 ((mUnd_oth (by omega) (by omega)).trans q2) (by omega) (by omega) d
  rw [show min P s1 = s1 by omega] at k1
  rw [show min s1 s2 = s1 by omega] at k2
  have ou : ∀ j, j ≠ 159 → j ≠ 161 → ∀ i, rd (mUnd (mUnd T P c1 s1) P c2 s1) j i = rd T j i := fun j h1 h2 i => (mUnd_oth (by omega) (by omega)).trans (mUnd_oth (by omega) (by omega))
  refine ⟨mUnd (mUnd T P c1 s1) P c2 s1, zb, (ou 154 (by omega) (by omega) P).trans p154, (ou 155 (by omega) (by omega) P).trans p155, (ou 156 (by omega) (by omega) P).trans p156, (ou 157 (by omega) (by omega) P).trans p157, fun d v1 v5 => ?_⟩
  rw [runs, e329_134 (d + 3), c_in (by omega) (by omega) (by omega), c_in (by omega) (by omega) (by omega), i32_ixn (by omega), hT]
  have p154' : rd (wr (wr (wr t0 157 P w) 154 P (i32 c1)) 155 P (i32 c2)) 154 P = i32 c1 := by rw [wr_nek (by omega), wr_self]
  first
    | rw [p154', bV_ok (k1 (d + 2))]
    | rw [p154, bV_ok (k1 (d + 2))]
  rw [c_in (by omega) (by omega) (by omega), mUnd_oth (by omega) (by omega), p155, bV_ok (k2 (d + 2)), show pv_c2 .ne (2 : Int32) 3 = true from rfl, cond_true, e329_180 (d + 3), bV_ok (mbec (x := 2) (k := 2) rfl ((ou 123 (by omega) (by omega) 22).trans q22) (by omega) hlt (d + 1))]
/-- one more part of these kinds -/
theorem form_ok {κ A0 A2 P0 : Nat} {kids C : List Nat} (hST : ST K1 K2 m μ g fc sc fs D H n A2 P (r + kids.length) σ τ) (hκ : κ = 18 ∨ κ = 19 ∨ κ = 20) (hk : contK σ P0 kids P) (hkn : ∀ c, c ∈ kids → rd σ 24 c = i32 (-1)) (hkl : kids.length = ari κ) (hks : ∀ w c : Nat, kids[w]? = some c → chC σ (scl κ w σ' P ++ sc) (rd σ 28 c)) (hown : ownR κ σ' P sc) (hA : A0 < A2) (hw : P + 1 ≤ wch μ A2)
    (nC : nodC σ σ1 P κ (i32 A0) (i32 (A2 - 1 : Nat)) (rd σ 62 5) P0 kids) (hxC : xC σ1 σ' P) (e8 : rd σ' 62 8 = i32 A0) (e9 : rd σ' 62 9 = i32 (A2 - 1 : Nat)) (e3 : rd σ' 62 3 = i32 A2) (e4 : rd σ' 62 4 = i32 D) (e11 : rd σ' 62 11 = i32 H) (h63 : ∀ i, i < H → rd σ' 63 i = rd σ 63 i)
    (nM : nodM τ τ1 P (i32 (mKd κ)) (i32 A0) (i32 (A2 - 1 : Nat)) P0 kids) (m154 : ∀ w, w < 3 → rd τ1 (154 + w) P = kid kids w) (m157 : κ = 19 ∨ κ = 20 → rd τ1 157 P = rd σ' 27 P) (hnn : nnR κ σ' P) (hR : RF A0 P0 P σ) (hbC : ∀ v, bnd σ' P v → v ∈ C) :
    ST K1 K2 m μ g fc sc fs D H n A2 (P + 1) (r + 1) σ' (mBec τ1 r P) ∧ TOP A0 P0 A2 (P + 1) r σ' (mBec τ1 r P) ∧ OLDg [] C n r H P0 σ τ σ' (mBec τ1 r P) := by
  obtain ⟨o1, o2, o3, o4, ⟨o5, o5'⟩, o6, ⟨s1, s2, s3, s4, s5, s6, s7, s8, s9, s10, s11, s12⟩, o8, o9, o10⟩ := hST.all
  have hb : ∀ j i, ¬ (135 ≤ j ∧ j ≤ 137 ∧ i = r) → ¬ (j = 123 ∧ i = 22) → rd (mBec τ1 r P) j i = rd τ1 j i := fun j i h1 h2 => mBec_oth h1 h2
  have hbn : ∀ j i, ¬ (135 ≤ j ∧ j ≤ 137 ∧ i = r) → ¬ (j = 123 ∧ (i = 22 ∨ i = 46)) → ¬ (151 ≤ j ∧ j ≤ 163) → rd (mBec τ1 r P) j i = rd τ j i := fun j i h1 h2 h3 => (hb j i h1 (by omega)).trans (nM.2.1 j i h3 (by omega))
  obtain ⟨b1, b2, b3, b4⟩ := mBec_at (τ := τ1) (r := r) (P := P)
  have hkids : ∀ w, w < 3 → rd σ' (20 + w) P = kid kids w := fun w hw => by rw [hxC.1 (20 + w) P (by omega) (scC_lo (by omega))]; exact nC.2.2.2.1 w hw
  have vv : ∀ w, w < 3 → rd (mBec τ1 r P) (154 + w) P = rd σ' (20 + w) P := fun w hw => by rw [hb (154 + w) P (by omega) (by omega), m154 w hw, hkids w hw]
  have z2 : rd τ1 152 P = i32 A0 := nM.2.2.1.2.1
  have z3 : rd τ1 153 P = i32 (A2 - 1 : Nat) := nM.2.2.1.2.2.1
  have hge : ∀ c, c ∈ kids → P0 ≤ c := fun c hc => (contK.mem kids P0 P hk c hc).1
  have hle : P0 ≤ P := by
    cases kids with
    | nil => exact Nat.le_of_eq hk
    | cons c t => have := contK.mem _ _ _ hk c List.mem_cons_self; omega
  obtain ⟨w1, w2⟩ := hST.node (κ := κ) (a := A0) (b := A2 - 1) (st := P0) (kids := kids) (r0 := r) (D' := D) (H' := H) (n' := n) (A' := A2) (σ' := σ') (τ' := mBec τ1 r P) (by omega) (by omega) (by omega) (by omega) nC nM hxC
    (fun j i h1 h2 => by
      by_cases h3 : j = 123 ∧ i = 22
      · rw [h3.1, h3.2] at h2; cases h2
      · exact hb j i (fun q => by
          have : rgN 132 138 j = true := by unfold rgN; rw [Nat.ble_eq_true_of_le (by omega), Nat.blt_eq.mpr (by omega)]; rfl
          unfold scM at h2; rw [this] at h2; cases h2) h3)
    hk hkn ((hb 152 P (by omega) (by omega)).trans z2) ((hb 153 P (by omega) (by omega)).trans z3) (by omega) (by omega) (fun e => by omega) hnn
    ⟨fun q => by rw [hb 157 P (by omega) (by omega)]; exact m157 (by omega), fun q => absurd q (by omega), fun q => absurd q (by omega), fun q1 q2 => absurd q2 (by omega), fun q => absurd q (by omega), fun q => absurd q (by omega), fun q => absurd q (by omega), fun q => absurd q (by omega), fun _ => ⟨vv 0 (by omega), vv 1 (by omega), vv 2 (by omega), hkids⟩, fun q => absurd q (by omega)⟩
    hks hown hkl (Nat.le_refl _) s8 s9 s10 (by omega) hw e3 ((hbn _ _ (by omega) (by omega) (by omega)).trans s2) e4 ((hbn _ _ (by omega) (by omega) (by omega)).trans s4) e11 ((hbn _ _ (by omega) (by omega) (by omega)).trans s6) b4
  refine ⟨w1, ⟨⟨hA, RF.node nC hxC (by omega) hR⟩, by omega, e8, e9, b1, b2.trans z2, b3.trans z3, w2⟩, ?_⟩
  exact OLD.node (n := n) (r := r) (P0 := P0) (τ' := mBec τ1 r P) nC nM hxC hge hle h63 (fun j i h1 h2 h3 h4 => hb j i (by omega) (by omega)) (fun j i h => hb j i (by omega) (by omega)) o5 (by omega) hbC
end FORM
