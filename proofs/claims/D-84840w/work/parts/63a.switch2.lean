/-! RUNS: switches -/
def t399 (κ : Nat) : Nat := [262, 48, 124, 170, 215, 223, 231, 262, 239].getD κ 0
theorem sw399 : ∀ κ : Nat, κ < 9 → ((insP 399 1).bind fun q => tv_sw q.1 1 (i32 κ)) = some (t399 κ) := by
  have h : ((List.range 9).all fun κ => ((insP 399 1).bind fun q => tv_sw q.1 1 (i32 κ)) == some (t399 κ)) = true := by decide +kernel
  intro κ hκ
  exact eq_of_beq (List.all_eq_true.mp h κ (List.mem_range.mpr hκ))
def t418 (κ : Nat) : Nat := [318, 136, 151, 161, 182, 318, 296, 318, 318, 318, 174, 230, 252, 274].getD κ 0
theorem sw418 : ∀ κ : Nat, κ < 14 → ((insP 418 70).bind fun q => tv_sw q.1 70 (i32 κ)) = some (t418 κ) := by
  have h : ((List.range 14).all fun κ => ((insP 418 70).bind fun q => tv_sw q.1 70 (i32 κ)) == some (t418 κ)) = true := by decide +kernel
  intro κ hκ
  exact eq_of_beq (List.all_eq_true.mp h κ (List.mem_range.mpr hκ))
/-- by the kind of the part: 8..15 -/
def t410 (κ : Nat) : Nat := [0, 0, 0, 0, 0, 0, 0, 0, 120, 128, 136, 144, 152, 160, 175, 190].getD κ 0
theorem sw410 : ∀ κ : Nat, κ < 16 → 8 ≤ κ → ((insP 410 48).bind fun q => tv_sw q.1 48 (i32 (opS κ : Nat))) = some (t410 κ) := by
  have h : ((List.range 16).all fun κ => Nat.blt κ 8 || (((insP 410 48).bind fun q => tv_sw q.1 48 (i32 (opS κ : Nat))) == some (t410 κ))) = true := by decide +kernel
  intro κ hκ h8
  have h1 := List.all_eq_true.mp h κ (List.mem_range.mpr hκ)
  rcases Bool.or_eq_true_iff.mp h1 with h2 | h2
  · have := Nat.blt_eq.mp h2; omega
  · exact eq_of_beq h2
def t262 (κ : Nat) : Nat := [0, 124, 155, 169, 181, 190, 206, 231, 239, 247, 254, 262, 381, 381, 381, 381, 381, 381, 381, 381, 270, 305, 323, 334, 348, 359, 366, 373].getD κ 0
theorem sw262 : ∀ κ : Nat, κ < 28 → 1 ≤ κ → ((insP 262 1).bind fun q => tv_sw q.1 1 (i32 κ)) = some (t262 κ) := by
  have h : ((List.range 28).all fun κ => Nat.blt κ 1 || (((insP 262 1).bind fun q => tv_sw q.1 1 (i32 κ)) == some (t262 κ))) = true := by decide +kernel
  intro κ hκ h8
  have h1 := List.all_eq_true.mp h κ (List.mem_range.mpr hκ)
  rcases Bool.or_eq_true_iff.mp h1 with h2 | h2
  · have := Nat.blt_eq.mp h2; omega
  · exact eq_of_beq h2
def t277 (κ : Nat) : Nat := [0, 0, 0, 0, 0, 0, 0, 0, 0, 0, 0, 0, 44, 48, 52, 56, 60, 64, 75, 86].getD κ 0
theorem sw277 : ∀ κ : Nat, κ < 20 → 12 ≤ κ → ((insP 277 1).bind fun q => tv_sw q.1 1 (i32 κ)) = some (t277 κ) := by
  have h : ((List.range 20).all fun κ => Nat.blt κ 12 || (((insP 277 1).bind fun q => tv_sw q.1 1 (i32 κ)) == some (t277 κ))) = true := by decide +kernel
  intro κ hκ h8
  have h1 := List.all_eq_true.mp h κ (List.mem_range.mpr hκ)
  rcases Bool.or_eq_true_iff.mp h1 with h2 | h2
  · have := Nat.blt_eq.mp h2; omega
  · exact eq_of_beq h2
