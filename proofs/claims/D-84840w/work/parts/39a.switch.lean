/-! TYPING: which way a kind or a role goes -/
def t147 (κ : Nat) : Nat := [301, 104, 121, 136, 160, 197, 219, 219, 301, 301, 301, 301, 301, 301, 301, 301, 241, 256, 241, 241, 241].getD κ 0
def t334 (κ : Nat) : Nat := [254, 68, 70, 81, 88, 120, 148, 198, 68, 219, 231, 254, 254, 254].getD κ 0
def t149 (κ : Nat) : Nat := [355, 76, 91, 113, 143, 173, 202, 221, 252, 91, 318, 341].getD κ 0
def t340 (κ : Nat) : Nat := [424, 424, 424, 424, 282, 424, 171, 191, 112, 245, 424, 120, 296, 330].getD κ 0
theorem sw147 : ∀ κ : Nat, κ < 21 → ((insP 147 9).bind fun q => tv_sw q.1 9 (i32 κ)) = some (t147 κ) := by
  have h : ((List.range 21).all fun κ => ((insP 147 9).bind fun q => tv_sw q.1 9 (i32 κ)) == some (t147 κ)) = true := by decide +kernel
  intro κ hκ
  exact eq_of_beq (List.all_eq_true.mp h κ (List.mem_range.mpr hκ))
theorem sw334 : ∀ κ : Nat, κ < 14 → ((insP 334 13).bind fun q => tv_sw q.1 13 (i32 κ)) = some (t334 κ) := by
  have h : ((List.range 14).all fun κ => ((insP 334 13).bind fun q => tv_sw q.1 13 (i32 κ)) == some (t334 κ)) = true := by decide +kernel
  intro κ hκ
  exact eq_of_beq (List.all_eq_true.mp h κ (List.mem_range.mpr hκ))
theorem sw149 : ∀ κ : Nat, κ < 12 → ((insP 149 19).bind fun q => tv_sw q.1 19 (i32 κ)) = some (t149 κ) := by
  have h : ((List.range 12).all fun κ => ((insP 149 19).bind fun q => tv_sw q.1 19 (i32 κ)) == some (t149 κ)) = true := by decide +kernel
  intro κ hκ
  exact eq_of_beq (List.all_eq_true.mp h κ (List.mem_range.mpr hκ))
theorem sw340 : ∀ κ : Nat, κ < 14 → ((insP 340 56).bind fun q => tv_sw q.1 56 (i32 κ)) = some (t340 κ) := by
  have h : ((List.range 14).all fun κ => ((insP 340 56).bind fun q => tv_sw q.1 56 (i32 κ)) == some (t340 κ)) = true := by decide +kernel
  intro κ hκ
  exact eq_of_beq (List.all_eq_true.mp h κ (List.mem_range.mpr hκ))
