/-! CLOSED SETS OF NAMES -/
def inL : List Nat → Nat → Bool
  | [], _ => false
  | a :: r, k => Nat.beq k a || inL r k
def rgN (a b k : Nat) : Bool := Nat.ble a k && Nat.blt k b
def clB (S : Nat → Bool) : Bool := (List.range 239).all fun k => cond (S k) ((List.range 200).all fun f => cond (Nat.blt (refN k f) 239) (S (refN k f)) true) true
theorem refN_big (k f : Nat) (hf : 200 ≤ f) : refN k f = 999 := by
  unfold refN
  have hb : ∀ m, m ≤ 200 → Nat.blt f m = false := fun m hm => by
    cases e : Nat.blt f m with
    | false => rfl
    | true => exact absurd (Nat.blt_eq.mp e) (by omega)
  simp [hb]
theorem clS_of {S : Nat → Bool} (h : clB S = true) : clS S := by
  intro k f hk hS hr
  have a := List.all_eq_true.mp h k (List.mem_range.mpr hk)
  simp only [hS, cond_true] at a
  by_cases hf : f < 200
  · have b := List.all_eq_true.mp a f (List.mem_range.mpr hf)
    simp only [Nat.blt_eq.mpr hr, cond_true] at b
    exact b
  · rw [refN_big k f (by omega)] at hr
    omega
def SC : Nat → Bool := rgN 0 123
def SM : Nat → Bool := rgN 123 238
def STape : Nat → Bool := rgN 1 3
def SOut : Nat → Bool := rgN 3 5
theorem cl_SC : clS SC := clS_of (by decide +kernel)
theorem cl_SM : clS SM := clS_of (by decide +kernel)
theorem cl_STape : clS STape := clS_of (by decide +kernel)
theorem cl_SOut : clS SOut := clS_of (by decide +kernel)
theorem okS_of {S : Nat → Bool} {l : List Value} (h : (l.all fun v => match v with | .ref k => S k | _ => true) = true) : okS S l := by
  intro k hk _
  exact List.all_eq_true.mp h _ hk
theorem frS.mono {S T : Nat → Bool} {σ σ' : tvS} (h : frS S σ σ') (hST : ∀ k, S k = true → T k = true) : frS T σ σ' := fun k hk => h k (by
  cases e : S k with
  | false => rfl
  | true => rw [hST k e] at hk; cases hk)
theorem frS.rd {S : Nat → Bool} {σ σ' : tvS} (h : frS S σ σ') {k : Nat} (hk : S k = false) (i : Nat) : rd σ' k i = rd σ k i := (h k hk).1 i
theorem frS.rl {S : Nat → Bool} {σ σ' : tvS} (h : frS S σ σ') {k : Nat} (hk : S k = false) (i : Nat) : rl σ' k i = rl σ k i := (h k hk).2.1 i
theorem frS.ln {S : Nat → Bool} {σ σ' : tvS} (h : frS S σ σ') {k : Nat} (hk : S k = false) : ln σ' k = ln σ k := (h k hk).2.2.1
theorem frS.rh {S : Nat → Bool} {σ σ' : tvS} (h : frS S σ σ') {k : Nat} (hk : S k = false) : rh σ' k = rh σ k := (h k hk).2.2.2
theorem wr_self (σ : tvS) (k i : Nat) (x : Int32) : rd (wr σ k i x) k i = x := by rw [rd_wr, if_pos ⟨rfl, rfl⟩]
theorem wr_nek {σ : tvS} {k i : Nat} {x : Int32} {k' i' : Nat} (h : k' ≠ k) : rd (wr σ k i x) k' i' = rd σ k' i' := by rw [rd_wr, if_neg (fun q => h q.1)]
theorem wr_nei {σ : tvS} {k i : Nat} {x : Int32} {k' i' : Nat} (h : i' ≠ i) : rd (wr σ k i x) k' i' = rd σ k' i' := by rw [rd_wr, if_neg (fun q => h q.2)]
theorem rm_wr (σ : tvS) (k i : Nat) (x : Int32) : rm (wr σ k i x) = rm σ := rfl
theorem ln_wr (σ : tvS) (k i : Nat) (x : Int32) (j : Nat) : ln (wr σ k i x) j = ln σ j := rfl
/-! SIGNS -/
section SIGNS
variable {L : Nat} {xs : Nat → Int32}
theorem b01_1 : b01 1 = true := rfl
theorem b01_0 : b01 0 = true := rfl
theorem full1 {σ : tvS} {t : Nat} (h : rd σ 1 1 = i32 t) (ht : t ≤ 3000) (d : Nat) : rn L xs (d + 1) 35 0 [.ref 1] [] σ = some (.inl (some (.int (if t = 3000 then 1 else 0))), σ) := by
  rw [e35_0, h, show (3000 : Int32) = i32 3000 from rfl, c2_ne (by omega) (by omega) (by omega) (by omega)]
  by_cases e : t = 3000
  · rw [c_f (by omega), e35_17, b01_1, if_pos e]; rfl
  · rw [c_t (by omega), e35_16, e35_17, b01_0, if_neg e]; rfl
theorem add1 {σ : tvS} {t : Nat} (h : rd σ 1 1 = i32 t) (ht : t ≤ 3000) (d : Nat) (x : Int32) : rn L xs (d + 2) 34 0 [.ref 1, .int x] [] σ = some (.inl none, if t = 3000 then σ else wr (wr σ 2 t (by8 x)) 1 1 (i32 (t + 1 : Nat))) := by
  rw [e34_0 (d + 1), bI_ok (full1 h ht d)]
  by_cases e : t = 3000
  · rw [if_pos e, if_pos e]; rfl
  · rw [if_neg e, if_neg e]
    show rn L xs (d + 2) 34 8 [.ref 1, .int x] [] σ = _
    rw [e34_8 (d + 1), h, c_in (by omega) (by omega) (by omega), i32_ixn (by omega), nar_by8, show (1 : Int32) = i32 1 from rfl, i32_add, show (t : Int) + 1 = ((t + 1 : Nat) : Int) by omega]
theorem full3 {σ : tvS} {t : Nat} (h : rd σ 3 1 = i32 t) (ht : t ≤ 20000) (d : Nat) : rn L xs (d + 1) 35 0 [.ref 3] [] σ = some (.inl (some (.int (if t = 20000 then 1 else 0))), σ) := by
  rw [e35b_0, h, show (20000 : Int32) = i32 20000 from rfl, c2_ne (by omega) (by omega) (by omega) (by omega)]
  by_cases e : t = 20000
  · rw [c_f (by omega), e35_17, b01_1, if_pos e]; rfl
  · rw [c_t (by omega), e35_16, e35_17, b01_0, if_neg e]; rfl
theorem add3 {σ : tvS} {t : Nat} (h : rd σ 3 1 = i32 t) (ht : t ≤ 20000) (d : Nat) (x : Int32) : rn L xs (d + 2) 34 0 [.ref 3, .int x] [] σ = some (.inl none, if t = 20000 then σ else wr (wr σ 4 t (by8 x)) 3 1 (i32 (t + 1 : Nat))) := by
  rw [e34b_0 (d + 1), bI_ok (full3 h ht d)]
  by_cases e : t = 20000
  · rw [if_pos e, if_pos e]; rfl
  · rw [if_neg e, if_neg e]
    show rn L xs (d + 2) 34 8 [.ref 3, .int x] [] σ = _
    rw [e34b_8 (d + 1), h, c_in (by omega) (by omega) (by omega), i32_ixn (by omega), nar_by8, show (1 : Int32) = i32 1 from rfl, i32_add, show (t : Int) + 1 = ((t + 1 : Nat) : Int) by omega]
end SIGNS
