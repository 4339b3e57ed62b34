/-! TYPING, BOTH: places, one by one -/
/-- types of variables stay -/
def k67 (σ τ σ' τ' : tvS) : Prop := (∀ i, rd σ' 67 i = rd σ 67 i) ∧ ∀ i, rd τ' 179 i = rd τ 179 i
section PLACE
variable {L : Nat} {xs : Nat → Int32} {σ σ' τ τ' : tvS}
variable {K1 K2 Bc Bm f : Nat} {Rc Rm : Nat → Nat → Prop} {pd : List (Nat × List Nat × (Nat → Nat))} {n u a rc : Nat} {T : tyJ} {p : Nat}
/-- nothing is wanted: in a pair, in a fn -/
theorem plc_none {κ q y1 : Nat} (hT : TJ K1 K2 Bc Bm f Rc Rm pd n u a rc T σ τ) (hp : p < 4101) (hρ : rd σ 25 p = i32 0) (hq : q < 4101) (h2 : rd τ 159 p = i32 (q : Int)) (hκ : κ = 5 ∨ κ = 10) (h3 : rd τ 151 q = i32 (κ : Int)) (h4 : rd τ 178 p = i32 (y1 : Int)) (l d dm : Nat) : PLC L xs K1 K2 Bc Bm f Rc Rm pd pd n u a rc T p l d dm σ τ τ (fun T' s t => k67 σ τ s t ∧ T' = T) := by
  have e : κ < 14 ∧ t340 κ = 424 := by rcases hκ with h | h <;> subst h <;> decide
  refine .inr ⟨σ, τ, T, ?_, ?_, hT, exT.refl, frT.refl, frM.refl, ⟨fun _ => rfl, fun _ => rfl⟩, rfl⟩
  · rw [plc0_c (ρ := 0) (q := 0) hp (by omega) hρ (d + 5), show t149 0 = 355 from rfl, e149_355]
  · rw [plc0_m (by omega) hq e.1 h2 h3 h4 rfl (dm + 7), e.2, e340_424]
/-- the first of a join -/
theorem plc_head {q y1 : Nat} (hT : TJ K1 K2 Bc Bm f Rc Rm pd n u a rc T σ τ) (hp : p < 4101) (hρ : rd σ 25 p = i32 0) (hq : q < 4101) (h2 : rd τ 159 p = i32 (q : Int)) (h3 : rd τ 151 q = i32 9) (h0 : rd τ 154 q = i32 (p : Int)) (h4 : rd τ 178 p = i32 (y1 : Int)) (l d dm : Nat) : PLC L xs K1 K2 Bc Bm f Rc Rm pd pd n u a rc T p l d dm σ τ τ (fun T' s t => k67 σ τ s t ∧ T' = T) := by
  refine .inr ⟨σ, τ, T, ?_, ?_, hT, exT.refl, frT.refl, frM.refl, ⟨fun _ => rfl, fun _ => rfl⟩, rfl⟩
  · rw [plc0_c (ρ := 0) (q := 0) hp (by omega) hρ (d + 5), show t149 0 = 355 from rfl, e149_355]
  · rw [plc0_m (κ := 9) (by omega) hq (by omega) h2 h3 h4 h0 (dm + 7), if_pos rfl, show t340 9 = 245 from rfl, e340_245, show pv_c1 .ne (1 : Int32) = true from rfl, cond_true, e340_276, e340_281, b01_1, cond_true]
/-- what is chosen first, in a choice or a case -/
theorem plc_mid {κ q y1 : Nat} {k0 k2 : Int32} (hT : TJ K1 K2 Bc Bm f Rc Rm pd n u a rc T σ τ) (hp : p < 4101) (hρ : rd σ 25 p = i32 0) (hq : q < 4101) (h2 : rd τ 159 p = i32 (q : Int)) (hκ : κ = 11 ∨ κ = 13) (h3 : rd τ 151 q = i32 (κ : Int)) (h0 : rd τ 154 q = k0) (hn0 : k0 ≠ i32 (p : Int)) (h5 : rd τ 156 q = k2) (hn2 : k2 ≠ i32 (p : Int)) (h4 : rd τ 178 p = i32 (y1 : Int)) (l d dm : Nat) : PLC L xs K1 K2 Bc Bm f Rc Rm pd pd n u a rc T p l d dm σ τ τ (fun T' s t => k67 σ τ s t ∧ T' = T) := by
  have hc : pv_c2 .ne k2 (i32 (p : Int)) = true := decide_eq_true hn2
  refine .inr ⟨σ, τ, T, ?_, ?_, hT, exT.refl, frT.refl, frM.refl, ⟨fun _ => rfl, fun _ => rfl⟩, rfl⟩
  · rw [plc0_c (ρ := 0) (q := 0) hp (by omega) hρ (d + 5), show t149 0 = 355 from rfl, e149_355]
  · rcases hκ with h | h
    · subst h
      rw [plc0_m (κ := 11) (by omega) hq (by omega) h2 h3 h4 h0 (dm + 7), if_neg hn0, show t340 11 = 120 from rfl, e340_120, show pv_c1 .eq (0 : Int32) = true from rfl, cond_true, e340_135, c_in (by omega) (by omega) (by omega), i32_ixn (by omega), h5, hc, cond_true, e340_165, e340_170, b01_1, cond_true]
    · subst h
      rw [plc0_m (κ := 13) (by omega) hq (by omega) h2 h3 h4 h0 (dm + 7), if_neg hn0, show t340 13 = 330 from rfl, e340_330, show pv_c1 .eq (0 : Int32) = true from rfl, cond_true, e340_388, c_in (by omega) (by omega) (by omega), i32_ixn (by omega), h5, hc, cond_true, e340_418, e340_423, b01_1, cond_true]
/-- a function's whole -/
theorem plc_whole {x1 y1 x2 y2 l : Nat} (hT : TJ K1 K2 Bc Bm f Rc Rm pd n u (a + 1) rc T σ τ) (hK2 : 6 ≤ K2) (hp : p < 4101) (hf : f < 21) (hρ : rd σ 25 p = i32 11) (h2 : rd τ 159 p = i32 (-1)) (hl : rd σ 17 p = i32 (l : Int)) (hl2 : l < 3001) (h3 : rd σ 66 p = i32 (x1 : Int)) (h4 : rd τ 178 p = i32 (y1 : Int)) (h5 : rd σ 68 f = i32 (x2 : Int)) (h6 : rd τ 180 f = i32 (y2 : Int)) (z1 : T.2.2 x1 y1) (z2 : T.2.2 x2 y2) (c1 : cuN Bc x1) (c2 : cuN Bc x2) (m1 : cuN Bm y1) (m2 : cuN Bm y2) (d dm : Nat) : PLC L xs K1 K2 Bc Bm f Rc Rm pd pd n u a rc T p l d dm σ τ τ (fun T' s t => k67 σ τ s t ∧ LOC T T' (fun b => b = x1 ∨ b = x2) (fun b => b = x1 ∨ b = x2) ∧ yC T' x1 = yC T' x2) := by
  have gc : rn L xs (d + 6) 149 0 [.ref 65, .int (i32 (p : Int)), .int (i32 (f : Int)), jv, jv, jv] [] σ = bV (rn L xs (d + 5) 150 0 [.ref 65, .int (i32 (p : Int)), .int (i32 (x2 : Int))] [] σ) (fun s1 => rn L xs (d + 6) 149 355 [.ref 65, .int (i32 (p : Int)), .int (i32 (f : Int)), dj (.int (rd σ 24 p)), dj jv, dj jv] [] s1) X0 := by
    rw [plc0_c (ρ := 11) (q := 0) hp (by omega) hρ (d + 5), show t149 11 = 341 from rfl, e149_341 (d + 5), c_in (by omega) (by omega) (by omega), i32_ixn (by omega), h5]
  have gm : rn L xs (dm + 8) 340 0 [.ref 123, .int (i32 (f : Int)), .int (i32 (p : Int)), jv, jv, jv, jv, jv] [] τ = bI (rn L xs (dm + 7) 341 0 [.ref 123, .int (i32 (y1 : Int)), .int (i32 (y2 : Int)), jv, jv, jv, jv] [] τ) (fun a2 s1 => cond (b01 a2) (some (.inl (some (.int a2)), s1)) none) X0 := by
    rw [e340_0 (dm + 7), c_in (by omega) (by omega) (by omega), c_in (by omega) (by omega) (by omega), i32_ixn (by omega), h2, i32_raw, c2_ne (by omega) (by omega) (by omega) (by omega), c_f (by omega), c_in (by omega) (by omega) (by omega), h4, i32_ixn (by omega), h6]
  rcases want_J (L := L) (xs := xs) hT hK2 hp h3 hl hl2 z1 z2 c1 c2 m1 m2 d (dm + 3) with ⟨s0, t1, a1, a2, a3, a4, a5⟩ | ⟨s1, t1, T1, a1, a2, a3, a4, a5, a6, a7, a8⟩
  · refine .inl ⟨s0, t1, ?_, ?_, a3, a4, a5.sub rfl rfl⟩
    · rw [gc, bV_ex a1]; rfl
    · rw [gm, bI_ok a2, b01_0, cond_true]
  · refine .inr ⟨s1, t1, T1, ?_, ?_, a3, a4, a6.sub rfl rfl rfl, a7.sub rfl rfl, ⟨fun i => a6.rd (j := 67) rfl i, fun i => a7.rd (j := 179) rfl i⟩, a8, a5⟩
    · rw [gc, bV_ok a1, e149_355]
    · rw [gm, bI_ok a2, b01_1, cond_true]
/-- what is counted -/
theorem plc_count {κ q x1 y1 l : Nat} {k0 : Int32} (hT : TJ K1 K2 Bc Bm f Rc Rm pd n u (a + 1) rc T σ τ) (hK2 : 6 ≤ K2) (hp : p < 4101) (hρ : rd σ 25 p = i32 1) (hq : q < 4101) (h2 : rd τ 159 p = i32 (q : Int)) (h3 : rd τ 151 q = i32 (κ : Int)) (h0 : rd τ 154 q = k0) (hκ : κ = 8 ∨ (κ = 11 ∧ k0 = i32 (p : Int))) (hl : rd σ 17 p = i32 (l : Int)) (hl2 : l < 3001) (h5 : rd σ 66 p = i32 (x1 : Int)) (h4 : rd τ 178 p = i32 (y1 : Int)) (z1 : T.2.2 x1 y1) (c1 : cuN Bc x1) (m1 : cuN Bm y1) (d dm : Nat) : PLC L xs K1 K2 Bc Bm f Rc Rm pd pd n u a rc T p l d dm σ τ τ (fun T' s t => k67 σ τ s t ∧ LOC T T' (fun b => b = x1 ∨ b = 0) (fun b => b = x1 ∨ b = 0) ∧ yC T' x1 = yC T' 0) := by
  have gc : rn L xs (d + 6) 149 0 [.ref 65, .int (i32 (p : Int)), .int (i32 (f : Int)), jv, jv, jv] [] σ = bV (rn L xs (d + 5) 150 0 [.ref 65, .int (i32 (p : Int)), .int (i32 ((0 : Nat) : Int))] [] σ) (fun s1 => rn L xs (d + 6) 149 355 [.ref 65, .int (i32 (p : Int)), dj (dj (.int (i32 (f : Int)))), dj (dj (.int (rd σ 24 p))), dj (dj jv), dj (dj jv)] [] s1) X0 := by
    rw [plc0_c (ρ := 1) (q := 0) hp (by omega) hρ (d + 5), show t149 1 = 76 from rfl, e149_76 (d + 5), bI_ok (e93_0 (d + 4) σ)]; rfl
  rcases want_J (L := L) (xs := xs) hT hK2 hp h5 hl hl2 z1 (x2 := 0) (y2 := 0) hT.1.2.2.2.2.2 c1 (.inr rfl) m1 (.inr rfl) d (dm + 3) with ⟨s0, t1, a1, a2, a3, a4, a5⟩ | ⟨s1, t1, T1, a1, a2, a3, a4, a5, a6, a7, a8⟩
  · have a2' : rn L xs (dm + 7) 341 0 [.ref 123, .int (i32 (y1 : Int)), .int 0, jv, jv, jv, jv] [] τ = some (.inl (some (.int 0)), t1) := a2
    refine .inl ⟨s0, t1, by rw [gc, bV_ex a1]; rfl, ?_, a3, a4, a5.sub rfl rfl⟩
    rcases hκ with h | ⟨h, h'⟩
    · subst h
      rw [plc0_m (κ := 8) (by omega) hq (by omega) h2 h3 h4 h0 (dm + 7), show t340 8 = 112 from rfl, e340_112 (dm + 7), bI_ok a2', b01_0, cond_true]
    · subst h
      rw [plc0_m (κ := 11) (by omega) hq (by omega) h2 h3 h4 h0 (dm + 7), if_pos h', show t340 11 = 120 from rfl, e340_120 (dm + 7), show pv_c1 .eq (1 : Int32) = false from rfl, cond_false, bI_ok a2', e340_170, b01_0, cond_true]
  · have a2' : rn L xs (dm + 7) 341 0 [.ref 123, .int (i32 (y1 : Int)), .int 0, jv, jv, jv, jv] [] τ = some (.inl (some (.int 1)), t1) := a2
    refine .inr ⟨s1, t1, T1, by rw [gc, bV_ok a1, e149_355], ?_, a3, a4, a6.sub rfl rfl rfl, a7.sub rfl rfl, ⟨fun i => a6.rd (j := 67) rfl i, fun i => a7.rd (j := 179) rfl i⟩, a8, a5⟩
    rcases hκ with h | ⟨h, h'⟩
    · subst h
      rw [plc0_m (κ := 8) (by omega) hq (by omega) h2 h3 h4 h0 (dm + 7), show t340 8 = 112 from rfl, e340_112 (dm + 7), bI_ok a2', b01_1, cond_true]
    · subst h
      rw [plc0_m (κ := 11) (by omega) hq (by omega) h2 h3 h4 h0 (dm + 7), if_pos h', show t340 11 = 120 from rfl, e340_120 (dm + 7), show pv_c1 .eq (1 : Int32) = false from rfl, cond_false, bI_ok a2', e340_170, b01_1, cond_true]
/-- the other one of a choice, the last of a case: as the one before -/
theorem plc_else {κ ρ q b x1 y1 x2 y2 l : Nat} {k0 : Int32} (hT : TJ K1 K2 Bc Bm f Rc Rm pd n u (a + 1) rc T σ τ) (hK2 : 6 ≤ K2) (hp : p < 4101) (hρ : rd σ 25 p = i32 (ρ : Int)) (hq : q < 4101) (h1 : rd σ 24 p = i32 (q : Int)) (h2 : rd τ 159 p = i32 (q : Int)) (h3 : rd τ 151 q = i32 (κ : Int)) (hκ : (κ = 11 ∧ ρ = 2) ∨ (κ = 13 ∧ ρ = 9)) (h0 : rd τ 154 q = k0) (hn0 : k0 ≠ i32 (p : Int)) (h8 : rd τ 156 q = i32 (p : Int)) (hb : b < 4101) (h6 : rd σ 21 q = i32 (b : Int)) (h6' : rd τ 155 q = i32 (b : Int)) (h7 : rd σ 66 b = i32 (x2 : Int)) (h7' : rd τ 178 b = i32 (y2 : Int)) (hl : rd σ 17 p = i32 (l : Int)) (hl2 : l < 3001) (h5 : rd σ 66 p = i32 (x1 : Int)) (h4 : rd τ 178 p = i32 (y1 : Int)) (z1 : T.2.2 x1 y1) (z2 : T.2.2 x2 y2) (c1 : cuN Bc x1) (c2 : cuN Bc x2) (m1 : cuN Bm y1) (m2 : cuN Bm y2) (d dm : Nat) : PLC L xs K1 K2 Bc Bm f Rc Rm pd pd n u a rc T p l d dm σ τ τ (fun T' s t => k67 σ τ s t ∧ LOC T T' (fun b => b = x1 ∨ b = x2) (fun b => b = x1 ∨ b = x2) ∧ yC T' x1 = yC T' x2) := by
  have ht : ρ < 12 ∧ t149 ρ = 91 := by rcases hκ with h | h <;> rw [h.2] <;> decide
  have gc : rn L xs (d + 6) 149 0 [.ref 65, .int (i32 (p : Int)), .int (i32 (f : Int)), jv, jv, jv] [] σ = bV (rn L xs (d + 5) 150 0 [.ref 65, .int (i32 (p : Int)), .int (i32 (x2 : Int))] [] σ) (fun s1 => rn L xs (d + 6) 149 355 [.ref 65, .int (i32 (p : Int)), dj (.int (i32 (f : Int))), .int (i32 (q : Int)), dj jv, dj jv] [] s1) X0 := by
    rw [plc0_c (q := 0) hp ht.1 hρ (d + 5), ht.2, h1, e149_91 (d + 5), c_in (by omega) (by omega) (by omega), i32_ixn (by omega), h6, c_in (by omega) (by omega) (by omega), i32_ixn (by omega), h7]
  have hc : pv_c2 .ne (i32 (p : Int)) (i32 (p : Int)) = false := by rw [c2_ne (by omega) (by omega) (by omega) (by omega)]; exact decide_eq_false (fun k => k rfl)
  rcases want_J (L := L) (xs := xs) hT hK2 hp h5 hl hl2 z1 z2 c1 c2 m1 m2 d (dm + 3) with ⟨s0, t1, a1, a2, a3, a4, a5⟩ | ⟨s1, t1, T1, a1, a2, a3, a4, a5, a6, a7, a8⟩
  · refine .inl ⟨s0, t1, by rw [gc, bV_ex a1]; rfl, ?_, a3, a4, a5.sub rfl rfl⟩
    rcases hκ with ⟨h, _⟩ | ⟨h, _⟩
    · subst h
      rw [plc0_m (κ := 11) (by omega) hq (by omega) h2 h3 h4 h0 (dm + 7), if_neg hn0, show t340 11 = 120 from rfl, e340_120 (dm + 7), show pv_c1 .eq (0 : Int32) = true from rfl, cond_true, e340_135 (dm + 7), c_in (by omega) (by omega) (by omega), i32_ixn (by omega), h8, hc, cond_false, c_in (by omega) (by omega) (by omega), h6', c_in (by omega) (by omega) (by omega), i32_ixn (by omega), h7', bI_ok a2, show pv_c1 .eq (0 : Int32) = true from rfl, cond_true, e340_169, e340_170, b01_0, cond_true]
    · subst h
      rw [plc0_m (κ := 13) (by omega) hq (by omega) h2 h3 h4 h0 (dm + 7), if_neg hn0, show t340 13 = 330 from rfl, e340_330 (dm + 7), show pv_c1 .eq (0 : Int32) = true from rfl, cond_true, e340_388 (dm + 7), c_in (by omega) (by omega) (by omega), i32_ixn (by omega), h8, hc, cond_false, c_in (by omega) (by omega) (by omega), h6', c_in (by omega) (by omega) (by omega), i32_ixn (by omega), h7', bI_ok a2, show pv_c1 .eq (0 : Int32) = true from rfl, cond_true, e340_422, e340_423, b01_0, cond_true]
  · refine .inr ⟨s1, t1, T1, by rw [gc, bV_ok a1, e149_355], ?_, a3, a4, a6.sub rfl rfl rfl, a7.sub rfl rfl, ⟨fun i => a6.rd (j := 67) rfl i, fun i => a7.rd (j := 179) rfl i⟩, a8, a5⟩
    rcases hκ with ⟨h, _⟩ | ⟨h, _⟩
    · subst h
      rw [plc0_m (κ := 11) (by omega) hq (by omega) h2 h3 h4 h0 (dm + 7), if_neg hn0, show t340 11 = 120 from rfl, e340_120 (dm + 7), show pv_c1 .eq (0 : Int32) = true from rfl, cond_true, e340_135 (dm + 7), c_in (by omega) (by omega) (by omega), i32_ixn (by omega), h8, hc, cond_false, c_in (by omega) (by omega) (by omega), h6', c_in (by omega) (by omega) (by omega), i32_ixn (by omega), h7', bI_ok a2, show pv_c1 .eq (1 : Int32) = false from rfl, cond_false, e340_165, e340_170, b01_1, cond_true]
    · subst h
      rw [plc0_m (κ := 13) (by omega) hq (by omega) h2 h3 h4 h0 (dm + 7), if_neg hn0, show t340 13 = 330 from rfl, e340_330 (dm + 7), show pv_c1 .eq (0 : Int32) = true from rfl, cond_true, e340_388 (dm + 7), c_in (by omega) (by omega) (by omega), i32_ixn (by omega), h8, hc, cond_false, c_in (by omega) (by omega) (by omega), h6', c_in (by omega) (by omega) (by omega), i32_ixn (by omega), h7', bI_ok a2, show pv_c1 .eq (1 : Int32) = false from rfl, cond_false, e340_418, e340_423, b01_1, cond_true]
end PLACE
