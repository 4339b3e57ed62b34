/-! TYPING, BOTH: what the place of a part wants -/
section WANT
variable {L : Nat} {xs : Nat → Int32} {σ σ' τ τ' : tvS}
theorem gcel_one {k M : Nat} (hk : (k, M) ∈ gro) (h : ∃ e, ln σ k * 2 ^ e = M) (hM : 0 < M) : ∀ l : List (Nat × Nat), (k, M) ∈ l → 1 ≤ gcel σ l := by
  intro l
  induction l with
  | nil => intro h; cases h
  | cons q r ih =>
    intro hm
    rcases List.mem_cons.mp hm with e | e
    · subst e
      obtain ⟨e, he⟩ := h
      have h0 : 0 < ln σ k := by
        rcases Nat.eq_zero_or_pos (ln σ k) with q | q
        · rw [q, Nat.zero_mul] at he; omega
        · exact q
      show 1 ≤ M / ln σ k + _
      have : 1 ≤ M / ln σ k := by
        rw [← he, Nat.mul_div_cancel_left _ h0]; exact Nat.one_le_two_pow
      exact Nat.le_trans this (Nat.le_add_right _ _)
    · have := ih e
      show 1 ≤ q.2 / ln σ q.1 + gcel σ r
      exact Nat.le_trans this (Nat.le_add_left _ _)
theorem ROOM.xn {K1 K2 : Nat} (h : ROOM K1 K2 σ) (hK : 6 ≤ K2) : xnOK σ = true := by
  have h1 := gcel_one (σ := σ) (k := 61) (M := 524288) (by decide) (h.1 (61, 524288) (by decide)) (by decide) gro (by decide)
  unfold xnOK
  rw [Bool.and_eq_true]
  exact ⟨Nat.ble_eq_true_of_le (by have := h.2.1; omega), Nat.ble_eq_true_of_le (by have := h.2.2; omega)⟩
variable {K1 K2 Bc Bm f : Nat} {Rc Rm : Nat → Nat → Prop} {pd : List (Nat × List Nat × (Nat → Nat))} {n u a rc : Nat} {T : tyJ} {p : Nat}
def FCW : List Nat := [51, 52, 53, 54, 55, 56, 57, 58, 60, 61]
def FTW : List Nat := [51, 52, 53, 54, 55, 56, 57, 58, 61]
def FMW : List Nat := [166, 167, 168, 169, 170, 171, 172, 175, 176, 177, 183]
def FMG : List Nat := [63, 72, 84]
/-- room, and the tables of types are of one length -/
def RMQ (K1 K2 : Nat) (σ : tvS) : Prop := ROOM K1 K2 σ ∧ ∀ j, 51 ≤ j → j ≤ 58 → ln σ j = ln σ 51
/-- a part's type becomes another, or the fault is told -/
theorem want_J {x1 x2 y1 y2 l : Nat} (hT : TJ K1 K2 Bc Bm f Rc Rm pd n u (a + 1) rc T σ τ) (hK2 : 6 ≤ K2) (hp : p < 4101) (h1 : rd σ 66 p = i32 (x1 : Int)) (hl : rd σ 17 p = i32 (l : Int)) (hl2 : l < 3001) (z1 : T.2.2 x1 y1) (z2 : T.2.2 x2 y2) (c1 : cuN Bc x1) (c2 : cuN Bc x2) (m1 : cuN Bm y1) (m2 : cuN Bm y2) (d dm : Nat) :
    (∃ σ0 τ', rn L xs (d + 5) 150 0 [.ref 65, .int (i32 (p : Int)), .int (i32 (x2 : Int))] [] σ = some (.inr (1016, (rm σ0).1), cFlt σ0 5 (rd σ 13 l)) ∧ rn L xs (dm + 4) 341 0 [.ref 123, .int (i32 (y1 : Int)), .int (i32 (y2 : Int)), jv, jv, jv, jv] [] τ = some (.inl (some (.int 0)), τ') ∧ RMQ K1 K2 σ0 ∧ frT FCW FTW [8, 12, 14] σ σ0 ∧ frM FMW FMG τ τ') ∨
    (∃ σ' τ' T', rn L xs (d + 5) 150 0 [.ref 65, .int (i32 (p : Int)), .int (i32 (x2 : Int))] [] σ = some (.inl none, σ') ∧ rn L xs (dm + 4) 341 0 [.ref 123, .int (i32 (y1 : Int)), .int (i32 (y2 : Int)), jv, jv, jv, jv] [] τ = some (.inl (some (.int 1)), τ') ∧ TJ K1 K2 Bc Bm f Rc Rm pd n u a rc T' σ' τ' ∧ exT Bc Bm T T' ∧ T'.1.2.2.1 x1 = T'.1.2.2.1 x2 ∧ frT FCW FTW [8, 12, 14] σ σ' ∧ frM FMW FMG τ τ' ∧ LOC T T' (fun b => b = x1 ∨ b = x2) (fun b => b = x1 ∨ b = x2)) := by
  rcases hT.alike (L := L) (xs := xs) z1 z2 c1 c2 m1 m2 d dm jv jv jv jv jv jv jv jv with ⟨s1, t1, a1, a2, a3, a4, a5⟩ | ⟨s1, t1, T1, a1, a2, a3, a4, a5, a6, a7, a8, a9, a10, a11, a12⟩
  · have hLQ : ∀ j, 51 ≤ j → j ≤ 58 → ln s1 j = ln s1 51 := fun j h1 h2 => by
      obtain ⟨_, _, hTC, _⟩ := hT.1.1
      have e : ∀ j, 51 ≤ j → j ≤ 58 → ln s1 j = ln σ j := fun j h1 h2 => by
        have : j = 51 ∨ j = 52 ∨ j = 53 ∨ j = 54 ∨ j = 55 ∨ j = 56 ∨ j = 57 ∨ j = 58 := by omega
        rcases this with h | h | h | h | h | h | h | h <;> subst h <;> exact (a4.1.2.2 _ rfl).1
      rw [e j h1 h2, e 51 (by omega) (by omega)]; exact hTC.2.2.2.1 j h1 h2
    refine .inl ⟨s1, t1, ?_, a2, ⟨a3, hLQ⟩, a4.sub rfl rfl rfl, a5.sub rfl rfl⟩
    have r17 : rd s1 17 p = i32 (l : Int) := by rw [a4.rd (j := 17) rfl]; exact hl
    have p58 : rn L xs (d + 3) 58 0 [.ref 6, .int (i32 (l : Int))] [] s1 = some (.inl (some (.int (rd σ 13 l))), s1) := by
      rw [e58_0, c_in (by omega) (by omega) (by omega), i32_ixn (by omega), a4.rd (j := 13) rfl]
    have p45 : rn L xs (d + 3) 45 0 [.ref 5, .int 5, .int (rd σ 13 l)] [] s1 = some (.inr (1016, (rm s1).1), cFlt s1 5 (rd σ 13 l)) := by
      rw [e45_0, (a3.wr.wr : ROOM K1 K2 (wr (wr s1 5 0 5) 5 1 (rd σ 13 l))).xn hK2, cond_true]; rfl
    rw [e150_0 (d + 4), c_in (by omega) (by omega) (by omega), i32_ixn (by omega), h1, bI_ok a1, e151_0 (d + 3), show pv_c1 .ne (0 : Int32) = false from rfl, cond_false, c_in (by omega) (by omega) (by omega), i32_ixn (by omega), r17, bI_ok p58, bV_ex p45]
    rfl
  · refine .inr ⟨s1, t1, T1, ?_, a2, a3, a4, a5, a10.sub rfl rfl rfl, a11.sub rfl rfl, a12⟩
    have p151 : rn L xs (d + 4) 151 0 [.ref 65, .int 1, .int (i32 (p : Int))] [] s1 = some (.inl none, s1) := by
      rw [e151_0 (d + 3), show pv_c1 .ne (1 : Int32) = true from rfl, cond_true, e151_28]
    rw [e150_0 (d + 4), c_in (by omega) (by omega) (by omega), i32_ixn (by omega), h1, bI_ok a1, bV_ok p151]
/-- what is to be shown of a part's place -/
def PLC (L : Nat) (xs : Nat → Int32) (K1 K2 Bc Bm f : Nat) (Rc Rm : Nat → Nat → Prop) (pd pd' : List (Nat × List Nat × (Nat → Nat))) (n u a rc' : Nat) (T : tyJ) (p l d dm : Nat) (σ τ τ1 : tvS) (Q : tyJ → tvS → tvS → Prop) : Prop :=
  (∃ σ0 τ', rn L xs (d + 6) 149 0 [.ref 65, .int (i32 (p : Int)), .int (i32 (f : Int)), jv, jv, jv] [] σ = some (.inr (1016, (rm σ0).1), cFlt σ0 5 (rd σ 13 l)) ∧ rn L xs (dm + 8) 340 0 [.ref 123, .int (i32 (f : Int)), .int (i32 (p : Int)), jv, jv, jv, jv, jv] [] τ = some (.inl (some (.int 0)), τ') ∧ RMQ K1 K2 σ0 ∧ frT FCW FTW [8, 12, 14] σ σ0 ∧ frM (179 :: FMW) FMG τ1 τ') ∨
  (∃ σ' τ' T', rn L xs (d + 6) 149 0 [.ref 65, .int (i32 (p : Int)), .int (i32 (f : Int)), jv, jv, jv] [] σ = some (.inl none, σ') ∧ rn L xs (dm + 8) 340 0 [.ref 123, .int (i32 (f : Int)), .int (i32 (p : Int)), jv, jv, jv, jv, jv] [] τ = some (.inl (some (.int 1)), τ') ∧ TJ K1 K2 Bc Bm f Rc Rm pd' n u a rc' T' σ' τ' ∧ exT Bc Bm T T' ∧ frT (67 :: FCW) FTW [8, 12, 14] σ σ' ∧ frM (179 :: FMW) FMG τ1 τ' ∧ Q T' σ' τ')
theorem plc0_c {ρ q : Nat} (hp : p < 4101) (hρ : ρ < 12) (h : rd σ 25 p = i32 (ρ : Int)) (d : Nat) (y : Int32) : rn L xs (d + 1) 149 0 [.ref 65, .int (i32 (p : Int)), .int y, jv, jv, jv] [] σ = rn L xs (d + 1) 149 (t149 ρ) [.ref 65, .int (i32 (p : Int)), .int y, .int (rd σ 24 p), jv, jv] [] σ := by
  rw [e149_0, c_in (by omega) (by omega) (by omega), c_in (by omega) (by omega) (by omega), i32_ixn (by omega), h, swk_of (sw149 ρ hρ)]
theorem plc0_m {κ q y1 : Nat} {k0 : Int32} (hp : p < 6000) (hq : q < 4101) (hκ : κ < 14) (h : rd τ 159 p = i32 (q : Int)) (hk : rd τ 151 q = i32 (κ : Int)) (h1 : rd τ 178 p = i32 (y1 : Int)) (h0 : rd τ 154 q = k0) (d : Nat) (y : Int32) : rn L xs (d + 1) 340 0 [.ref 123, .int y, .int (i32 (p : Int)), jv, jv, jv, jv, jv] [] τ = rn L xs (d + 1) 340 (t340 κ) [.ref 123, .int y, .int (i32 (p : Int)), .int (i32 (q : Int)), .int (i32 (y1 : Int)), .int (if k0 = i32 (p : Int) then 1 else 0), jv, jv] [] τ := by
  have hn : pv_c2 .ne k0 (i32 (p : Int)) = decide (¬ k0 = i32 (p : Int)) := rfl
  rw [e340_0, c_in (by omega) (by omega) (by omega), c_in (by omega) (by omega) (by omega), i32_ixn (by omega), h, i32_raw, c2_ne (by omega) (by omega) (by omega) (by omega), c_t (by omega), h1, e340_33, c_in (by omega) (by omega) (by omega), i32_ixn (by omega), h0, hn]
  by_cases e : k0 = i32 (p : Int)
  · rw [decide_eq_false (fun k => k e), cond_false, if_pos e, e340_48, c_in (by omega) (by omega) (by omega), i32_ixn (by omega), hk, swk_of (sw340 κ hκ)]
  · rw [decide_eq_true e, cond_true, e340_47, if_neg e, e340_48, c_in (by omega) (by omega) (by omega), i32_ixn (by omega), hk, swk_of (sw340 κ hκ)]
end WANT
