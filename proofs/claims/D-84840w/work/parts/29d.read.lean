/-! READING: parts -/
def cNew (σ : tvS) (P : Nat) (κ f l s : Int32) : tvS := wr (wr (wr (wr (wr (wr (wr (wr (wr (wr (wr (wr (wr (wr σ 15 13 (i32 (P + 1 : Nat))) 16 P κ) 17 P f) 18 P l) 19 P (i32 (-1))) 20 P (i32 (-1))) 21 P (i32 (-1))) 22 P (i32 (-1))) 23 P (i32 (-1))) 24 P (i32 (-1))) 25 P 0) 26 P (i32 P)) 27 P 0) 28 P s
def cPut (σ : tvS) (p w c : Nat) (role : Int32) (s : Nat) : tvS := wr (wr (wr (wr σ (20 + w) p (i32 c)) 24 c (i32 p)) 25 c role) 26 p (i32 s)
def mNew (τ : tvS) (P : Nat) (κ f l : Int32) : tvS := wr (wr (wr (wr (wr (wr (wr (wr (wr (wr (wr (wr (wr τ 151 P κ) 152 P f) 153 P l) 154 P (i32 (-1))) 155 P (i32 (-1))) 156 P (i32 (-1))) 157 P (i32 (-1))) 158 P f) 159 P (i32 (-1))) 160 P (rd τ 123 43)) 161 P (i32 P)) 163 P 0) 123 46 (i32 (P + 1 : Nat))
def mUnd (τ : tvS) (p c s : Nat) : tvS := wr (wr τ 159 c (i32 p)) 161 p (i32 s)
section RD3
variable {L : Nat} {xs : Nat → Int32} {m V S : Nat} {sc : List Nat} {σ τ σ' τ' : tvS}
theorem cnew_ok {P : Nat} (hP : rd σ 15 13 = i32 P) (hlt : P < 4101) (d : Nat) (κ f l s : Int32) : rn L xs (d + 1) 70 0 [.ref 15, .int κ, .int f, .int l, .int s, jv] [] σ = some (.inl (some (.int (i32 P))), cNew σ P κ f l s) := by
  have e : ∀ {x : tvR}, cond (pv_in (i32 (P : Int)) 4101) x none = x := fun {x} => c_in (by omega) (by omega) (by omega)
  rw [e70_0, hP]
  simp only [e, i32_ixn (show P < 2147483648 by omega), i32_n1]
  rfl
theorem mnew_ok {P : Nat} (hP : rd τ 123 46 = i32 P) (hlt : P < 6000) (d : Nat) (κ f l : Int32) : rn L xs (d + 1) 313 0 [.ref 123, .int κ, .int f, .int l, jv] [] τ = some (.inl (some (.int (i32 P))), mNew τ P κ f l) := by
  have e : ∀ {x : tvR}, cond (pv_in (i32 (P : Int)) 6000) x none = x := fun {x} => c_in (by omega) (by omega) (by omega)
  rw [e313_0, hP]
  simp only [e, i32_ixn (show P < 2147483648 by omega), i32_n1]
  rfl
theorem cNew_old {P : Nat} {κ f l s : Int32} {j i : Nat} (hi : i ≠ P) (h15 : j = 15 → i ≠ 13) : rd (cNew σ P κ f l s) j i = rd σ j i := by
  unfold cNew
  simp only [rd_wr]
  rw [if_neg (by omega), if_neg (by omega), if_neg (by omega), if_neg (by omega), if_neg (by omega), if_neg (by omega), if_neg (by omega), if_neg (by omega), if_neg (by omega), if_neg (by omega), if_neg (by omega), if_neg (by omega), if_neg (by omega), if_neg (by omega)]
theorem cNew_oth {P : Nat} {κ f l s : Int32} {j i : Nat} (hj : rgN 16 29 j = false) (h15 : j = 15 → i ≠ 13) : rd (cNew σ P κ f l s) j i = rd σ j i := by
  have hj : ¬ (16 ≤ j ∧ j < 29) := fun q => by
    unfold rgN at hj
    rw [Nat.ble_eq_true_of_le q.1, Nat.blt_eq.mpr q.2] at hj
    cases hj
  unfold cNew
  simp only [rd_wr]
  rw [if_neg (by omega), if_neg (by omega), if_neg (by omega), if_neg (by omega), if_neg (by omega), if_neg (by omega), if_neg (by omega), if_neg (by omega), if_neg (by omega), if_neg (by omega), if_neg (by omega), if_neg (by omega), if_neg (by omega), if_neg (by omega)]
theorem cNew_at {P : Nat} {κ f l s : Int32} : rd (cNew σ P κ f l s) 16 P = κ ∧ rd (cNew σ P κ f l s) 17 P = f ∧ rd (cNew σ P κ f l s) 18 P = l ∧ rd (cNew σ P κ f l s) 19 P = i32 (-1) ∧ rd (cNew σ P κ f l s) 20 P = i32 (-1) ∧ rd (cNew σ P κ f l s) 21 P = i32 (-1) ∧ rd (cNew σ P κ f l s) 22 P = i32 (-1) ∧ rd (cNew σ P κ f l s) 23 P = i32 (-1) ∧ rd (cNew σ P κ f l s) 24 P = i32 (-1) ∧ rd (cNew σ P κ f l s) 25 P = 0 ∧ rd (cNew σ P κ f l s) 26 P = i32 P ∧ rd (cNew σ P κ f l s) 27 P = 0 ∧ rd (cNew σ P κ f l s) 28 P = s ∧ rd (cNew σ P κ f l s) 15 13 = i32 (P + 1 : Nat) := by
  unfold cNew
  simp [rd_wr]
theorem mNew_old {P : Nat} {κ f l : Int32} {j i : Nat} (hi : i ≠ P) (h15 : j = 123 → i ≠ 46) : rd (mNew τ P κ f l) j i = rd τ j i := by
  unfold mNew
  simp only [rd_wr]
  rw [if_neg (by omega), if_neg (by omega), if_neg (by omega), if_neg (by omega), if_neg (by omega), if_neg (by omega), if_neg (by omega), if_neg (by omega), if_neg (by omega), if_neg (by omega), if_neg (by omega), if_neg (by omega), if_neg (by omega)]
theorem mNew_oth {P : Nat} {κ f l : Int32} {j i : Nat} (hj : ¬ (151 ≤ j ∧ j ≤ 163)) (h15 : j = 123 → i ≠ 46) : rd (mNew τ P κ f l) j i = rd τ j i := by
  unfold mNew
  simp only [rd_wr]
  rw [if_neg (by omega), if_neg (by omega), if_neg (by omega), if_neg (by omega), if_neg (by omega), if_neg (by omega), if_neg (by omega), if_neg (by omega), if_neg (by omega), if_neg (by omega), if_neg (by omega), if_neg (by omega), if_neg (by omega)]
theorem mNew_at {P : Nat} {κ f l : Int32} : rd (mNew τ P κ f l) 151 P = κ ∧ rd (mNew τ P κ f l) 152 P = f ∧ rd (mNew τ P κ f l) 153 P = l ∧ rd (mNew τ P κ f l) 154 P = i32 (-1) ∧ rd (mNew τ P κ f l) 155 P = i32 (-1) ∧ rd (mNew τ P κ f l) 156 P = i32 (-1) ∧ rd (mNew τ P κ f l) 157 P = i32 (-1) ∧ rd (mNew τ P κ f l) 158 P = f ∧ rd (mNew τ P κ f l) 159 P = i32 (-1) ∧ rd (mNew τ P κ f l) 160 P = rd τ 123 43 ∧ rd (mNew τ P κ f l) 161 P = i32 P ∧ rd (mNew τ P κ f l) 163 P = 0 ∧ rd (mNew τ P κ f l) 123 46 = i32 (P + 1 : Nat) := by
  unfold mNew
  simp [rd_wr]
theorem min_run (d a b : Nat) (ha : a < 5000) (hb : b < 5000) (σ : tvS) : rn L xs (d + 1) 439 0 [.int (i32 a), .int (i32 b)] [] σ = some (.inl (some (.int (i32 (min a b : Nat)))), σ) := by
  rw [e439_0, c2_gt (by omega) (by omega) (by omega) (by omega)]
  by_cases q : b < a
  · rw [c_t (by omega), e439_9, e439_10, show min a b = b by omega]
  · rw [c_f (by omega), e439_10, show min a b = a by omega]
/-- a part comes to stand in another one -/
theorem cenc_ok {p c sp sx : Nat} (hp : p < 4101) (hc : c < 4101) (hsp : rd σ 26 p = i32 sp) (hsx : rd σ 26 c = i32 sx) (h1 : sp < 4101) (h2 : sx < 4101) (d : Nat) (role : Int32) : rn L xs (d + 2) 72 0 [.ref 15, .int (i32 p), .int (i32 c), .int role] [] σ = some (.inl none, wr (wr (wr σ 24 c (i32 p)) 25 c role) 26 p (i32 (min sp sx : Nat))) := by
  rw [e72_0 (d + 1), c_in (by omega) (by omega) (by omega), c_in (by omega) (by omega) (by omega), c_in (by omega) (by omega) (by omega), c_in (by omega) (by omega) (by omega), i32_ixn (by omega), i32_ixn (by omega), hsp, hsx, bI_ok (min_run d sp sx (by omega) (by omega) _), c_in (by omega) (by omega) (by omega)]
theorem cput_ok {p w c sp sx : Nat} (hw : w < 3) (hp : p < 4101) (hc : c < 4101) (hsp : rd σ 26 p = i32 sp) (hsx : rd σ 26 c = i32 sx) (h1 : sp < 4101) (h2 : sx < 4101) (d : Nat) (role : Int32) : rn L xs (d + 3) 71 0 [.ref 15, .int (i32 p), .int (i32 w), .int (i32 c), .int role] [] σ = some (.inl none, cPut σ p w c role (min sp sx)) := by
  have e : ∀ (j : Nat), j ≠ 26 → rn L xs (d + 3) 71 36 [.ref 15, .int (i32 p), .int (i32 w), .int (i32 c), .int role] [] (wr σ j p (i32 c)) = some (.inl none, wr (wr (wr (wr σ j p (i32 c)) 24 c (i32 p)) 25 c role) 26 p (i32 (min sp sx : Nat))) := by
    intro j hj
    rw [e71_36 (d + 2), bV_ok (cenc_ok hp hc (by rw [wr_nek (fun q => hj q.symm)]; exact hsp) (by rw [wr_nek (fun q => hj q.symm)]; exact hsx) h1 h2 d role)]
  rw [e71_0 (d + 2), c1_ne (by omega) (by omega)]
  match w, hw with
  | 0, _ =>
    rw [c_f (by omega), c_in (by omega) (by omega) (by omega), i32_ixn (by omega)]
    exact e 20 (by decide)
  | 1, _ =>
    rw [c_t (by omega), e71_14 (d + 2), show (1 : Int32) = i32 1 from rfl, c2_ne (by omega) (by omega) (by omega) (by omega), c_f (by omega), c_in (by omega) (by omega) (by omega), i32_ixn (by omega)]
    exact e 21 (by decide)
  | 2, _ =>
    rw [c_t (by omega), e71_14 (d + 2), show (1 : Int32) = i32 1 from rfl, c2_ne (by omega) (by omega) (by omega) (by omega), c_t (by omega), e71_29 (d + 2), c_in (by omega) (by omega) (by omega), i32_ixn (by omega)]
    exact e 22 (by decide)
theorem mund_ok {p c sp sx : Nat} (hp : p < 6000) (hc : c < 6000) (hne : p ≠ c) (hsp : rd τ 161 p = i32 sp) (hsx : rd τ 161 c = i32 sx) (h1 : sp < 6000) (h2 : sx < 6000) (d : Nat) : rn L xs (d + 1) 323 0 [.ref 123, .int (i32 p), .int (i32 c)] [] τ = some (.inl none, mUnd τ p c (min sp sx)) := by
  rw [e323_0, c_in (by omega) (by omega) (by omega), c_in (by omega) (by omega) (by omega), c_in (by omega) (by omega) (by omega), i32_ixn (by omega), i32_ixn (by omega), hsp, hsx, c2_ge (by omega) (by omega) (by omega) (by omega)]
  by_cases q : sp ≤ sx
  · rw [c_t (by omega), e323_36, c_in (by omega) (by omega) (by omega), i32_ixn (by omega), wr_nek (by decide), hsp, e323_42, c_in (by omega) (by omega) (by omega), i32_ixn (by omega), show min sp sx = sp by omega]
    rfl
  · rw [c_f (by omega), c_in (by omega) (by omega) (by omega), e323_42, c_in (by omega) (by omega) (by omega), i32_ixn (by omega), show min sp sx = sx by omega]
    rfl
theorem cPut_oth {p w c s : Nat} {role : Int32} {j i : Nat} (hj : ¬ (j = 20 + w ∧ i = p)) (h24 : ¬ (j = 24 ∧ i = c)) (h25 : ¬ (j = 25 ∧ i = c)) (h26 : ¬ (j = 26 ∧ i = p)) : rd (cPut σ p w c role s) j i = rd σ j i := by
  unfold cPut
  simp only [rd_wr]
  rw [if_neg h26, if_neg h25, if_neg h24, if_neg hj]
theorem cPut_at {p w c s : Nat} {role : Int32} (hw : w < 3) : rd (cPut σ p w c role s) (20 + w) p = i32 c ∧ rd (cPut σ p w c role s) 24 c = i32 p ∧ rd (cPut σ p w c role s) 25 c = role ∧ rd (cPut σ p w c role s) 26 p = i32 s := by
  unfold cPut
  simp only [rd_wr]
  refine ⟨?_, ?_, ?_, ?_⟩
  · rw [if_neg (by omega), if_neg (by omega), if_neg (by omega), if_pos (by simp)]
  · rw [if_neg (by omega), if_neg (by omega), if_pos (by simp)]
  · rw [if_neg (by omega), if_pos (by simp)]
  · rw [if_pos (by simp)]
theorem mUnd_oth {p c s j i : Nat} (h1 : ¬ (j = 159 ∧ i = c)) (h2 : ¬ (j = 161 ∧ i = p)) : rd (mUnd τ p c s) j i = rd τ j i := by
  unfold mUnd
  simp only [rd_wr]
  rw [if_neg h2, if_neg h1]
theorem mUnd_at {p c s : Nat} : rd (mUnd τ p c s) 159 c = i32 p ∧ rd (mUnd τ p c s) 161 p = i32 s := by
  unfold mUnd
  simp [rd_wr]
theorem chC.congr : ∀ (l : List Nat) (x : Int32), chC σ l x → (∀ v, v ∈ l → rd σ' 33 v = rd σ 33 v ∧ rd σ' 32 v = rd σ 32 v) → chC σ' l x := by
  intro l
  induction l with
  | nil => intro x h _; exact h
  | cons v r ih =>
    intro x h hc
    obtain ⟨h1, h2, h3, h4⟩ := h
    obtain ⟨c1, c2⟩ := hc v List.mem_cons_self
    refine ⟨h1, h2, by rw [c1]; exact h3, ?_⟩
    rw [c2]
    exact ih _ h4 (fun u hu => hc u (List.mem_cons_of_mem _ hu))
theorem chM.congr {S' : Nat} (hS : S ≤ S') : ∀ (l : List Nat) (x : Int32), chM τ S l x → (∀ s : Nat, s ≤ S → rd τ' 149 s = rd τ 149 s ∧ rd τ' 150 s = rd τ 150 s) → chM τ' S' l x := by
  intro l
  induction l with
  | nil => intro x h _; exact h
  | cons v r ih =>
    intro x h hc
    obtain ⟨s, h1, h2, h3, h4, h5⟩ := h
    obtain ⟨c1, c2⟩ := hc s h2
    refine ⟨s, h1, by omega, h3, by rw [c1]; exact h4, ?_⟩
    rw [c2]
    exact ih _ h5 hc
end RD3
