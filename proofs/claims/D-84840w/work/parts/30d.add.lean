/-! READING: parts of one, two, three -/
section ADD
variable {L : Nat} {xs : Nat → Int32} {K1 K2 m : Nat} {μ : Nat → Nat} {g fc : Nat} {sc : List Nat} {fs fs' : List (Nat × Nat × List Nat)} {F D H n A P r r0 : Nat} {σ τ σ' τ' σ1 τ1 : tvS}
theorem pad1 {κ c1 s1 : Nat} {x f l s r1 : Int32} (hx : x = i32 κ) (hP : rd σ 15 13 = i32 P) (hlt : P < 4101) (h1 : c1 < P) (e1 : rd σ 26 c1 = i32 s1) (hs : s1 ≤ c1) (q1 : i32 (rol κ 0) = r1) (d : Nat) : ∃ σ1, nodC σ σ1 P κ f l s s1 [c1] ∧
    ∀ K : Int32 → tvS → tvR, bI (rn L xs (d + 3) 70 0 [.ref 15, .int x, .int f, .int l, .int s, jv] [] σ) (fun a2 s1 => bV (rn L xs (d + 3) 71 0 [.ref 15, .int a2, .int 0, .int (i32 c1), .int r1] [] s1) (fun s3 => K a2 s3) X0) X0 = K (i32 P) σ1 := by
  subst hx
  have z := nodC.zero (σ := σ) (P := P) (κ := κ) (f := f) (l := l) (s := s)
  have r1' : rn L xs (d + 3) 71 0 [.ref 15, .int (i32 P), .int 0, .int (i32 c1), .int r1] [] (cNew σ P (i32 κ) f l s) = some (.inl none, cPut (cNew σ P (i32 κ) f l s) P 0 c1 r1 (min P s1)) := cput_ok (w := 0) (by omega) hlt (by omega) z.2.2.1.2.2.2.2.2.2.2.1 ((cNew_old (by omega) (by omega)).trans e1) hlt (by omega) d r1
  refine ⟨_, z.add (c := c1) (by omega) (by simp) (by simp) (st' := min P s1) (role := r1) (by rw [← q1]; rfl) |> fun h => by rw [show min P s1 = s1 by omega] at h; exact h, fun K => ?_⟩
  rw [bI_ok (cnew_ok hP hlt (d + 2) _ _ _ _), bV_ok r1', show min P s1 = s1 by omega]
  rfl
theorem pad2 {κ c1 c2 s1 s2 : Nat} {x f l s r1 r2 : Int32} (hx : x = i32 κ) (hP : rd σ 15 13 = i32 P) (hlt : P < 4101) (h1 : c1 < c2) (h2 : c2 < P) (e1 : rd σ 26 c1 = i32 s1) (e2 : rd σ 26 c2 = i32 s2) (hs : s1 ≤ c1) (hs2 : s1 ≤ s2) (hs3 : s2 ≤ c2) (q1 : i32 (rol κ 0) = r1) (q2 : i32 (rol κ 1) = r2) (d : Nat) : ∃ σ1, nodC σ σ1 P κ f l s s1 [c1, c2] ∧
    ∀ K : Int32 → tvS → tvR, bI (rn L xs (d + 3) 70 0 [.ref 15, .int x, .int f, .int l, .int s, jv] [] σ) (fun a2 s1 => bV (rn L xs (d + 3) 71 0 [.ref 15, .int a2, .int 0, .int (i32 c1), .int r1] [] s1) (fun s3 => bV (rn L xs (d + 3) 71 0 [.ref 15, .int a2, .int 1, .int (i32 c2), .int r2] [] s3) (fun s4 => K a2 s4) X0) X0) X0 = K (i32 P) σ1 := by
  obtain ⟨σ1, n1, k1⟩ := pad1 (L := L) (xs := xs) (f := f) (l := l) (s := s) hx hP hlt (by omega) e1 hs q1 d
  have r2' : rn L xs (d + 3) 71 0 [.ref 15, .int (i32 P), .int 1, .int (i32 c2), .int r2] [] σ1 = some (.inl none, cPut σ1 P 1 c2 r2 (min s1 s2)) := cput_ok (w := 1) (by omega) hlt (by omega) n1.2.2.1.2.2.2.2.2.2.2.1 ((n1.1 26 c2 (by omega) (by omega) (by omega)).trans e2) (by omega) (by omega) d r2
  refine ⟨_, n1.add (c := c2) (by omega) (by simp; omega) (by simp) (st' := min s1 s2) (role := r2) (by rw [← q2]; rfl) |> fun h => by rw [show min s1 s2 = s1 by omega] at h; exact h, fun K => ?_⟩
  rw [k1 (fun a2 s3 => bV (rn L xs (d + 3) 71 0 [.ref 15, .int a2, .int 1, .int (i32 c2), .int r2] [] s3) (fun s4 => K a2 s4) X0), bV_ok r2', show min s1 s2 = s1 by omega]
  rfl
theorem pad3 {κ c1 c2 c3 s1 s2 s3 : Nat} {x f l s r1 r2 r3 : Int32} (hx : x = i32 κ) (hP : rd σ 15 13 = i32 P) (hlt : P < 4101) (h1 : c1 < c2) (h2 : c2 < c3) (h3 : c3 < P) (e1 : rd σ 26 c1 = i32 s1) (e2 : rd σ 26 c2 = i32 s2) (e3 : rd σ 26 c3 = i32 s3) (hs : s1 ≤ c1) (hs2 : s1 ≤ s2) (hs3 : s2 ≤ c2) (hs4 : s1 ≤ s3) (hs5 : s3 ≤ c3) (q1 : i32 (rol κ 0) = r1) (q2 : i32 (rol κ 1) = r2) (q3 : i32 (rol κ 2) = r3) (d : Nat) : ∃ σ1, nodC σ σ1 P κ f l s s1 [c1, c2, c3] ∧
    ∀ K : Int32 → tvS → tvR, bI (rn L xs (d + 3) 70 0 [.ref 15, .int x, .int f, .int l, .int s, jv] [] σ) (fun a2 s1 => bV (rn L xs (d + 3) 71 0 [.ref 15, .int a2, .int 0, .int (i32 c1), .int r1] [] s1) (fun s3 => bV (rn L xs (d + 3) 71 0 [.ref 15, .int a2, .int 1, .int (i32 c2), .int r2] [] s3) (fun s4 => bV (rn L xs (d + 3) 71 0 [.ref 15, .int a2, .int 2, .int (i32 c3), .int r3] [] s4) (fun s5 => K a2 s5) X0) X0) X0) X0 = K (i32 P) σ1 := by
  obtain ⟨σ1, n1, k1⟩ := pad2 (L := L) (xs := xs) (f := f) (l := l) (s := s) hx hP hlt h1 (by omega) e1 e2 hs hs2 hs3 q1 q2 d
  have r2' : rn L xs (d + 3) 71 0 [.ref 15, .int (i32 P), .int 2, .int (i32 c3), .int r3] [] σ1 = some (.inl none, cPut σ1 P 2 c3 r3 (min s1 s3)) := cput_ok (w := 2) (by omega) hlt (by omega) n1.2.2.1.2.2.2.2.2.2.2.1 ((n1.1 26 c3 (by omega) (by omega) (by omega)).trans e3) (by omega) (by omega) d r3
  refine ⟨_, n1.add (c := c3) (by omega) (by simp; omega) (by simp) (st' := min s1 s3) (role := r3) (by rw [← q3]; rfl) |> fun h => by rw [show min s1 s3 = s1 by omega] at h; exact h, fun K => ?_⟩
  rw [k1 (fun a2 s4 => bV (rn L xs (d + 3) 71 0 [.ref 15, .int a2, .int 2, .int (i32 c3), .int r3] [] s4) (fun s5 => K a2 s5) X0), bV_ok r2', show min s1 s3 = s1 by omega]
  rfl
theorem nodM.wr {κ f l v : Int32} {st : Nat} {kids : List Nat} (h : nodM τ τ1 P κ f l st kids) {j : Nat} (h1 : 154 ≤ j) (h2 : j ≤ 157) : nodM τ (wr τ1 j P v) P κ f l st kids := by
  obtain ⟨a1, a2, ⟨b1, b2, b3, b5, b6, b7, b8, b9⟩, a5, a6, a7⟩ := h
  have e : ∀ j' i, j' ≠ j ∨ i ≠ P → rd (_root_.Jvm.Pilot.CRegionHouseLaw_law_r4070_6feeab.wr τ1 j P v) j' i = rd τ1 j' i := fun j' i h => by rw [rd_wr, if_neg (by omega)]
  refine ⟨fun j' i h3 h4 h5 => (e j' i (by omega)).trans (a1 j' i h3 h4 h5), fun j' i h3 h4 => (e j' i (by omega)).trans (a2 j' i h3 h4), ⟨?_, ?_, ?_, ?_, ?_, ?_, ?_, ?_⟩, fun w c hw => ?_, ?_, a7⟩
  · rw [e _ _ (by omega)]; exact b1
  · rw [e _ _ (by omega)]; exact b2
  · rw [e _ _ (by omega)]; exact b3
  · rw [e _ _ (by omega)]; exact b5
  · rw [e _ _ (by omega)]; exact b6
  · rw [e _ _ (by omega)]; exact b7
  · rw [e _ _ (by omega)]; exact b8
  · rw [e _ _ (by omega)]; exact b9
  · rw [e _ _ (by omega)]; exact a5 w c hw
  · rw [e _ _ (by omega)]; exact a6
theorem i32_s1 {a : Nat} (h : 1 ≤ a) : i32 (a : Int) - 1 = i32 (a - 1 : Nat) := by rw [show (1 : Int32) = i32 1 from rfl, i32_sub]; congr 1; omega
theorem i32_sn {a b : Nat} (h : b ≤ a) : i32 (a : Int) - i32 (b : Int) = i32 (a - b : Nat) := by rw [i32_sub]; congr 1; omega
theorem mchild {k : Nat} {x : Int32} (hx : x = i32 k) (hr : rd τ 123 22 = i32 r) (hk : k ≤ r) (hk1 : 1 ≤ k) (hr2 : r ≤ 6000) (d : Nat) : rn L xs (d + 1) 326 0 [.ref 123, .int x] [] τ = some (.inl (some (.int (rd τ 135 (r - k)))), τ) := by
  rw [e326_0, hr, hx, i32_sn hk, c_in (by omega) (by omega) (by omega), i32_ixn (by omega)]
theorem mtwo {c1 c2 s1 s2 : Nat} (hr : rd τ 123 22 = i32 (r + 2 : Nat)) (hr2 : r + 2 ≤ 6000) (hP : rd τ 123 46 = i32 P) (hlt : P < 6000) (h1 : rd τ 135 r = i32 c1) (h2 : rd τ 135 (r + 1) = i32 c2) (hc1 : c1 < c2) (hc2 : c2 < P) (e1 : rd τ 161 c1 = i32 s1) (e2 : rd τ 161 c2 = i32 s2) (hs : s1 ≤ c1) (hs2 : s1 ≤ s2) (hs3 : s2 ≤ c2) (x : Int32) : ∃ τ1, (∀ d, rn L xs (d + 3) 325 0 [.ref 123, .int x, jv] [] τ = some (.inl (some (.int (i32 P))), τ1)) ∧ nodM τ τ1 P x (rd τ 136 r) (rd τ 137 (r + 1)) s1 [c1, c2] ∧ rd τ1 154 P = i32 c1 ∧ rd τ1 155 P = i32 c2 ∧ rd τ1 156 P = i32 (-1) := by
  have z := ((nodM.zero (τ := τ) (P := P) (κ := x) (f := rd τ 136 r) (l := rd τ 137 (r + 1))).wr (j := 154) (v := i32 c1) (by omega) (by omega)).wr (j := 155) (v := i32 c2) (by omega) (by omega)
  generalize ht : wr (wr (mNew τ P x (rd τ 136 r) (rd τ 137 (r + 1))) 154 P (i32 c1)) 155 P (i32 c2) = τ0 at z
  have q1 : rd τ0 154 P = i32 c1 := by rw [← ht, wr_nek (by omega), rd_wr, if_pos ⟨rfl, rfl⟩]
  have q2 : rd τ0 155 P = i32 c2 := by rw [← ht, rd_wr, if_pos ⟨rfl, rfl⟩]
  have q3 : rd τ0 156 P = i32 (-1) := by rw [← ht, wr_nek (by omega), wr_nek (by omega)]; exact mNew_at.2.2.2.2.2.1
  have u1 : ∀ d, rn L xs (d + 1) 323 0 [.ref 123, .int (i32 P), .int (i32 c1)] [] τ0 = some (.inl none, mUnd τ0 P c1 (min P s1)) := fun d => mund_ok (by omega) (by omega) (by omega) z.2.2.1.2.2.2.2.2.2.1 ((z.1 161 c1 (by omega) (by simp) (by omega)).trans e1) (by omega) (by omega) d
  have z1 := z.add (c := c1) (by omega) (by simp) (st' := s1)
  rw [show min P s1 = s1 by omega] at u1
  have u2 : ∀ d, rn L xs (d + 1) 323 0 [.ref 123, .int (i32 P), .int (i32 c2)] [] (mUnd τ0 P c1 s1) = some (.inl none, mUnd (mUnd τ0 P c1 s1) P c2 (min s1 s2)) := fun d => mund_ok (by omega) (by omega) (by omega) z1.2.2.1.2.2.2.2.2.2.1 ((z1.1 161 c2 (by omega) (by simp) (by omega)).trans e2) (by omega) (by omega) d
  have z2 := z1.add (c := c2) (by omega) (by simp; omega) (st' := s1)
  rw [show min s1 s2 = s1 by omega] at u2
  refine ⟨_, fun d => ?_, z2, ?_, ?_, ?_⟩
  · have hm22 : ∀ j i, j ≠ 123 → ¬ (151 ≤ j ∧ j ≤ 163) → rd (mNew τ P x (rd τ 136 r) (rd τ 137 (r + 1))) j i = rd τ j i := fun j i h1 h2 => mNew_oth h2 (by omega)
    have hm3 : rd (mNew τ P x (rd τ 136 r) (rd τ 137 (r + 1))) 123 22 = i32 (r + 2 : Nat) := (mNew_oth (by omega) (by omega)).trans hr
    have w135 : rd (wr (mNew τ P x (rd τ 136 r) (rd τ 137 (r + 1))) 154 P (i32 c1)) 135 (r + 1) = i32 c2 := by rw [wr_nek (by omega), hm22 135 (r + 1) (by omega) (by omega)]; exact h2
    have w154 : rd (wr (mNew τ P x (rd τ 136 r) (rd τ 137 (r + 1))) 154 P (i32 c1)) 154 P = i32 c1 := by rw [rd_wr, if_pos ⟨rfl, rfl⟩]
    rw [e325_0 (d + 2), hr, show (2 : Int32) = i32 (2 : Nat) from rfl, i32_sn (by omega), i32_s1 (by omega), c_in (by omega) (by omega) (by omega), c_in (by omega) (by omega) (by omega), i32_ixn (by omega), i32_ixn (by omega), show r + 2 - 2 = r by omega, show r + 2 - 1 = r + 1 by omega, bI_ok (mnew_ok hP hlt (d + 1) x _ _),
      bI_ok (mchild (k := 2) rfl hm3 (by omega) (by omega) (by omega) (d + 1)), show r + 2 - 2 = r by omega, hm22 135 r (by omega) (by omega), h1, c_in (by omega) (by omega) (by omega), i32_ixn (by omega), bI_ok (mchild (x := 1) (k := 1) rfl ((wr_nek (by omega)).trans hm3) (by omega) (by omega) (by omega) (d + 1)), show r + 2 - 1 = r + 1 by omega, w135, w154, c_in (by omega) (by omega) (by omega), c_in (by omega) (by omega) (by omega), ht, bV_ok (u1 (d + 1)), c_in (by omega) (by omega) (by omega), mUnd_oth (by omega) (by omega), q2, bV_ok (u2 (d + 1))]
  · rw [mUnd_oth (by omega) (by omega), mUnd_oth (by omega) (by omega)]; exact q1
  · rw [mUnd_oth (by omega) (by omega), mUnd_oth (by omega) (by omega)]; exact q2
  · rw [mUnd_oth (by omega) (by omega), mUnd_oth (by omega) (by omega)]; exact q3
def mBec (τ : tvS) (r P : Nat) : tvS := wr (wr (wr (wr (wr τ 123 22 (i32 r)) 135 r (i32 P)) 136 r (rd τ 152 P)) 137 r (rd τ 153 P)) 123 22 (i32 (r + 1 : Nat))
theorem mbec {k : Nat} {x : Int32} (hx : x = i32 k) (hr : rd τ 123 22 = i32 (r + k : Nat)) (hr2 : r + k ≤ 5999) (hP : P < 6000) (d : Nat) : rn L xs (d + 2) 327 0 [.ref 123, .int (i32 P), .int x] [] τ = some (.inl none, mBec τ r P) := by
  rw [e327_0 (d + 1), c_in (by omega) (by omega) (by omega), c_in (by omega) (by omega) (by omega), hr, hx, i32_sn (by omega), show r + k - k = r by omega, i32_ixn (by omega), bV_ok (mhold_ok (r := r) (by rw [rd_wr, if_pos ⟨rfl, rfl⟩]) (by omega) d _ _ _)]
  rfl
theorem mBec_at : rd (mBec τ r P) 135 r = i32 P ∧ rd (mBec τ r P) 136 r = rd τ 152 P ∧ rd (mBec τ r P) 137 r = rd τ 153 P ∧ rd (mBec τ r P) 123 22 = i32 (r + 1 : Nat) := by
  unfold mBec
  simp [rd_wr]
theorem mBec_oth {j i : Nat} (h1 : ¬ (135 ≤ j ∧ j ≤ 137 ∧ i = r)) (h2 : ¬ (j = 123 ∧ i = 22)) : rd (mBec τ r P) j i = rd τ j i := by
  unfold mBec
  rw [rd_wr, if_neg (by omega), rd_wr, if_neg (by omega), rd_wr, if_neg (by omega), rd_wr, if_neg (by omega), rd_wr, if_neg (by omega)]
theorem mBec_ag (h : agM τ τ') : agM τ (mBec τ' r P) := ((((h.wr rfl).wr rfl).wr rfl).wr rfl).wr rfl
end ADD
