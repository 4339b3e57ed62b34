/-! TYPING, BOTH: places that bind variables -/
section BOUND
variable {L : Nat} {xs : Nat → Int32} {σ σ' τ τ' : tvS}
theorem CT.o67 {K1 K2 N : Nat} {C : tG} {c : Nat → Nat} {h : Nat → Nat → Prop} {H S : Nat} {k i : Nat} {x : Int32} (hT : CT K1 K2 N C c h H S σ) (hk : k = 66 ∨ k = 67 ∨ k = 68) : CT K1 K2 N C c h H S (wr σ k i x) := by
  obtain ⟨hl', hv, h1, h2, h3, h4, h5, h6, h7, h8⟩ := hT
  have w : frT [66, 67, 68] [] [] σ (wr σ k i x) := frT_wr (by rcases hk with h | h | h <;> subst h <;> rfl) (by omega)
  exact ⟨hl', hv, h1.T w rfl ⟨rfl, rfl, rfl, rfl⟩ (fun _ _ _ => rfl), h2.T w rfl ⟨rfl, rfl, rfl, rfl⟩ ⟨rfl, rfl⟩, h3, h4.T w rfl rfl, h5.wr, h6, h7, h8⟩
theorem MY.o179 {N : Nat} {M : tG} {m : Nat → Nat} {h : Nat → Nat → Prop} {H Sm Sh : Nat} {k i : Nat} {x : Int32} (hT : MY N M m h H Sm Sh τ) (hk : k = 178 ∨ k = 179 ∨ k = 180) : MY N M m h H Sm Sh (wr τ k i x) := by
  obtain ⟨hl', hv, ⟨h1, h2, h3, h4, h5⟩, h6, h7, h8⟩ := hT
  have w : frM [178, 179, 180] [] τ (wr τ k i x) := frM_wr (by rcases hk with h | h | h <;> subst h <;> rfl) (by omega)
  exact ⟨hl', hv, ⟨h1.fr w rfl ⟨rfl, rfl, rfl, rfl⟩, h2.fr w rfl ⟨rfl, rfl, rfl⟩, h3, h4.fr w rfl ⟨rfl, rfl⟩, h5.fr w rfl rfl⟩, h6, h7, h8⟩
variable {K1 K2 Bc Bm f : Nat} {Rc Rm : Nat → Nat → Prop} {pd : List (Nat × List Nat × (Nat → Nat))} {n u a rc : Nat} {T : tyJ} {p : Nat}
theorem TJ.oC {k i : Nat} {x : Int32} (hT : TJ K1 K2 Bc Bm f Rc Rm pd n u a rc T σ τ) (hk : k = 66 ∨ k = 67 ∨ k = 68) : TJ K1 K2 Bc Bm f Rc Rm pd n u a rc T (wr σ k i x) τ := ⟨⟨hT.1.1.o67 hk, hT.1.2⟩, hT.2⟩
theorem TJ.oM {k i : Nat} {x : Int32} (hT : TJ K1 K2 Bc Bm f Rc Rm pd n u a rc T σ τ) (hk : k = 178 ∨ k = 179 ∨ k = 180) : TJ K1 K2 Bc Bm f Rc Rm pd n u a rc T σ (wr τ k i x) := ⟨⟨hT.1.1, hT.1.2.1.o179 hk, hT.1.2.2⟩, hT.2⟩
/-- what a let binds -/
theorem plc_bound {q v x1 y1 : Nat} (hT : TJ K1 K2 Bc Bm f Rc Rm pd n u a rc T σ τ) (hp : p < 4101) (hρ : rd σ 25 p = i32 10) (hq : q < 4101) (h1 : rd σ 24 p = i32 (q : Int)) (h2 : rd τ 159 p = i32 (q : Int)) (h3 : rd τ 151 q = i32 12) (h0 : rd τ 154 q = i32 (p : Int)) (hv : v < 3002) (h6 : rd σ 27 q = i32 (v : Int)) (h6' : rd τ 157 q = i32 (v : Int)) (h5 : rd σ 66 p = i32 (x1 : Int)) (h4 : rd τ 178 p = i32 (y1 : Int)) (l d dm : Nat) : PLC L xs K1 K2 Bc Bm f Rc Rm pd pd n u a rc T p l d dm σ τ τ (fun T' σ' τ' => σ' = wr σ 67 v (i32 (x1 : Int)) ∧ τ' = wr τ 179 v (i32 (y1 : Int)) ∧ T' = T) := by
  refine .inr ⟨wr σ 67 v (i32 (x1 : Int)), wr τ 179 v (i32 (y1 : Int)), T, ?_, ?_, (hT.oC (.inr (.inl rfl))).oM (.inr (.inl rfl)), exT.refl, frT_wr rfl (by decide), frM_wr rfl (by decide), rfl, rfl, rfl⟩
  · rw [plc0_c (ρ := 10) (q := 0) hp (by omega) hρ (d + 5), show t149 10 = 318 from rfl, h1, e149_318, c_in (by omega) (by omega) (by omega), c_in (by omega) (by omega) (by omega), i32_ixn (by omega), i32_ixn (by omega), h6, c_in (by omega) (by omega) (by omega), i32_ixn (by omega), h5, e149_355]
  · rw [plc0_m (κ := 12) (by omega) hq (by omega) h2 h3 h4 h0 (dm + 7), if_pos rfl, show t340 12 = 296 from rfl, e340_296, c_in (by omega) (by omega) (by omega), show pv_c1 .eq (1 : Int32) = false from rfl, cond_false, i32_ixn (by omega), h6', e340_327, c_in (by omega) (by omega) (by omega), i32_ixn (by omega)]
/-- what a let is -/
theorem plc_in {q v y1 y : Nat} {k0 : Int32} (hT : TJ K1 K2 Bc Bm f Rc Rm pd n u a rc T σ τ) (hp : p < 4101) (hρ : rd σ 25 p = i32 0) (hq : q < 4101) (h2 : rd τ 159 p = i32 (q : Int)) (h3 : rd τ 151 q = i32 12) (h0 : rd τ 154 q = k0) (hn0 : k0 ≠ i32 (p : Int)) (hv : v < 3002) (h6' : rd τ 157 q = i32 (v : Int)) (h7 : rd τ 179 v = i32 (y : Int)) (h4 : rd τ 178 p = i32 (y1 : Int)) (l d dm : Nat) : PLC L xs K1 K2 Bc Bm f Rc Rm pd pd n u a rc T p l d dm σ τ τ (fun T' σ' τ' => σ' = σ ∧ (∀ i, rd τ' 179 i = rd τ 179 i) ∧ T' = T) := by
  refine .inr ⟨σ, wr τ 179 v (i32 (y : Int)), T, ?_, ?_, hT.oM (.inr (.inl rfl)), exT.refl, frT.refl, frM_wr rfl (by decide), rfl, fun i => ?_, rfl⟩
  · rw [plc0_c (ρ := 0) (q := 0) hp (by omega) hρ (d + 5), show t149 0 = 355 from rfl, e149_355]
  · rw [plc0_m (κ := 12) (by omega) hq (by omega) h2 h3 h4 h0 (dm + 7), if_neg hn0, show t340 12 = 296 from rfl, e340_296, c_in (by omega) (by omega) (by omega), show pv_c1 .eq (0 : Int32) = true from rfl, cond_true, i32_ixn (by omega), h6', e340_316, c_in (by omega) (by omega) (by omega), i32_ixn (by omega), h6', c_in (by omega) (by omega) (by omega), i32_ixn (by omega), h7, e340_327, c_in (by omega) (by omega) (by omega), i32_ixn (by omega)]
  · rw [rd_wr]
    by_cases e : i = v
    · rw [if_pos ⟨rfl, e⟩, e, h7]
    · rw [if_neg (fun k => e k.2)]
/-- what a case is of: its two variables -/
theorem plc_cased {q v x1 y1 l : Nat} (hT : TJ K1 K2 Bc Bm f Rc Rm pd (n + 2) u (a + 1) rc T σ τ) (hK2 : 6 ≤ K2) (hp : p < 4101) (hρ : rd σ 25 p = i32 8) (hq : q < 4101) (h1 : rd σ 24 p = i32 (q : Int)) (h2 : rd τ 159 p = i32 (q : Int)) (h3 : rd τ 151 q = i32 13) (h0 : rd τ 154 q = i32 (p : Int)) (hv : v + 1 < 3002) (h6 : rd σ 27 q = i32 (v : Int)) (h6' : rd τ 157 q = i32 (v : Int)) (hl : rd σ 17 p = i32 (l : Int)) (hl2 : l < 3001) (h5 : rd σ 66 p = i32 (x1 : Int)) (h4 : rd τ 178 p = i32 (y1 : Int)) (z1 : T.2.2 x1 y1) (c1 : cuN Bc x1) (m1 : cuN Bm y1) (d dm : Nat) :
    PLC L xs K1 K2 Bc Bm f Rc Rm pd pd n u a rc T p l d dm σ τ τ (fun T' σ' τ' => ∃ e e' g g' : Nat, T'.2.2 e e' ∧ T'.2.2 g g' ∧ cuN Bc e ∧ cuN Bm e' ∧ cuN Bc g ∧ cuN Bm g' ∧ rd σ' 67 v = i32 (e : Int) ∧ rd σ' 67 (v + 1) = i32 (g : Int) ∧ rd τ' 179 v = i32 (e' : Int) ∧ rd τ' 179 (v + 1) = i32 (g' : Int) ∧ (∀ i, i ≠ v → i ≠ v + 1 → rd σ' 67 i = rd σ 67 i ∧ rd τ' 179 i = rd τ 179 i) ∧ LOC T T' (fun b => b = x1) (fun b => b = e ∨ b = g) ∧ bxT T' x1 3 e 0 ∧ yC T' x1 = yC T' g) := by
  obtain ⟨s1, t1, T1, a1, a2, a3, a4, a5, a6, a7, a8, a9, a10, a11, a12, a13, a14⟩ := TJ.new (L := L) (xs := xs) (k := 0) (x := 0) (y := 0) (x' := 0) (y' := 0) (i2 := i32 (-1)) (i3 := i32 (-1)) (j2 := i32 (-1)) (j3 := i32 (-1)) hT (by omega) (by omega) (fun h => by omega) (d + 2) (dm + 5) jv jv
  obtain ⟨s2, t2, T2, b1, b2, b3, b4, b5, b6, b7, b8, b9, b10, b11, b12, b13, b14⟩ := TJ.new (L := L) (xs := xs) (k := 3) (x := T.1.1) (y := 0) (x' := T.2.1.1) (y' := 0) (i2 := i32 (T.1.1 : Int)) (i3 := i32 (-1)) (j2 := i32 (T.2.1.1 : Int)) (j3 := i32 (-1)) a3 (by omega) (by omega) (fun _ => ⟨⟨rfl, rfl, a5, .inl a6, .inl a7⟩, fun h => absurd rfl h⟩) (d + 3) (dm + 6) jv jv
  have ws := a9.trans b9
  have wt := a10.trans b10
  have r66 : rd s2 66 p = i32 (x1 : Int) := by rw [ws.rd (j := 66) rfl]; exact h5
  have r17 : rd s2 17 p = i32 (l : Int) := by rw [ws.rd (j := 17) rfl]; exact hl
  have r13 : rd s2 13 l = rd σ 13 l := ws.rd (j := 13) rfl l
  have r157 : rd t2 157 q = i32 (v : Int) := by rw [wt.rd (j := 157) rfl]; exact h6'
  have w179 : frM (179 :: FMW) FMG t2 (wr (wr t2 179 v (i32 (T.2.1.1 : Int))) 179 (v + 1) (i32 (T1.2.1.1 : Int))) := (frM_wr rfl (by decide)).trans (frM_wr rfl (by decide))
  have W := want_J (L := L) (xs := xs) ((b3.oM (k := 179) (i := v) (x := i32 (T.2.1.1 : Int)) (.inr (.inl rfl))).oM (k := 179) (i := v + 1) (x := i32 (T1.2.1.1 : Int)) (.inr (.inl rfl))) hK2 hp r66 r17 hl2 ((a4.trans b4).1 _ _ z1) b5 c1 (.inl b6) m1 (.inl b7) d (dm + 3)
  have b1' : rn L xs (d + 5) 79 0 [.ref 50, .int 3, .int (i32 (T.1.1 : Int)), .int (i32 (-1)), jv] [] s1 = some (.inl (some (.int (i32 T1.1.1))), s2) := b1
  have b2' : rn L xs (dm + 7) 331 0 [.ref 123, .int 3, .int (i32 (T.2.1.1 : Int)), .int (i32 (-1)), jv] [] t1 = some (.inl (some (.int (i32 T1.2.1.1))), t2) := b2
  have e1 : i32 (v : Int) + 1 = i32 ((v + 1 : Nat) : Int) := by rw [show (1 : Int32) = i32 1 from rfl, i32_add]; rfl
  have gm : ∀ (z : Int32) (t : tvS), b01 z = true → rn L xs (dm + 7) 341 0 [.ref 123, .int (i32 (y1 : Int)), .int (i32 (T1.2.1.1 : Int)), jv, jv, jv, jv] [] (wr (wr t2 179 v (i32 (T.2.1.1 : Int))) 179 (v + 1) (i32 (T1.2.1.1 : Int))) = some (.inl (some (.int z)), t) → rn L xs (dm + 8) 340 0 [.ref 123, .int (i32 (f : Int)), .int (i32 (p : Int)), jv, jv, jv, jv, jv] [] τ = some (.inl (some (.int z)), t) := by
    intro z t hz h
    rw [plc0_m (κ := 13) (by omega) hq (by omega) h2 h3 h4 h0 (dm + 7), if_pos rfl, show t340 13 = 330 from rfl, e340_330 (dm + 7), show pv_c1 .eq (1 : Int32) = false from rfl, cond_false, bI_ok (unk_m (dm + 5) a2), i32_raw, bI_ok b2', c_in (by omega) (by omega) (by omega), i32_ixn (by omega), r157, c_in (by omega) (by omega) (by omega), c_in (by omega) (by omega) (by omega), e1, c_in (by omega) (by omega) (by omega), i32_ixn (by omega), i32_ixn (by omega), bI_ok h, hz, cond_true]
  have gc : rn L xs (d + 6) 149 0 [.ref 65, .int (i32 (p : Int)), .int (i32 (f : Int)), jv, jv, jv] [] σ = bV (rn L xs (d + 5) 150 0 [.ref 65, .int (i32 (p : Int)), .int (i32 (T1.1.1 : Int))] [] s2) (fun s5 => cond (pv_in (i32 (q : Int)) 4101) (cond (pv_in (rd s5 27 q) 4101) (cond (pv_in (i32 (q : Int)) 4101) (cond (pv_in ((rd s5 27 q) + 1) 4101) (rn L xs (d + 6) 149 355 [.ref 65, .int (i32 (p : Int)), dj (dj (dj (.int (i32 (f : Int))))), .int (i32 (q : Int)), .int (i32 (T.1.1 : Int)), .int (i32 (T1.1.1 : Int))] [] (wr (wr s5 67 (ix (rd s5 27 q)) (i32 (T.1.1 : Int))) 67 (ix ((rd s5 27 q) + 1)) (i32 (T1.1.1 : Int)))) none) none) none) none) X0 := by
    rw [plc0_c (ρ := 8) (q := 0) hp (by omega) hρ (d + 5), show t149 8 = 252 from rfl, h1, e149_252 (d + 5), bI_ok (unk_c (d + 2) a1), i32_raw, bI_ok b1', i32_ixn (by omega)]
  rcases W with ⟨s0, t4, q1, q2, q3, q4, q5⟩ | ⟨s4, t4, T4, q1, q2, q3, q4, q5, q6, q7, q8⟩
  · rw [r13] at q1
    exact .inl ⟨s0, t4, by rw [gc, bV_ex q1]; rfl, gm 0 t4 b01_0 q2, q3, (ws.sub rfl rfl rfl).trans q4, (wt.sub rfl rfl).trans (w179.trans (q5.sub rfl rfl))⟩
  · have r27 : rd s4 27 q = i32 (v : Int) := by rw [q6.rd (j := 27) rfl, ws.rd (j := 27) rfl]; exact h6
    have ext := a4.trans (b4.trans q4)
    have l1 := a11.weak (B' := fun b => b = x1) (fun x hx => absurd hx.1 (by decide)) (fun _ h => h)
    have l2 := l1.trans a12 (fun t u h => by rw [a13] at h; exact h) b11 (fun z hz => .inr (.inl (hz.2.elim id (fun h => absurd rfl h.1))))
    have l3 := l2.trans (b12.trans a12) (fun t u h => by rw [b13, a13] at h; exact h) q8 (fun z hz => hz.elim .inl (fun h => .inr (.inl (.inr h))))
    refine .inr ⟨wr (wr s4 67 v (i32 (T.1.1 : Int))) 67 (v + 1) (i32 (T1.1.1 : Int)), t4, T4, ?_, gm 1 t4 b01_1 q2, (q3.oC (.inr (.inl rfl))).oC (.inr (.inl rfl)), ext, (ws.sub rfl rfl rfl).trans ((q6.sub rfl rfl rfl).trans ((frT_wr rfl (by decide)).trans (frT_wr rfl (by decide)))), (wt.sub rfl rfl).trans (w179.trans (q7.sub rfl rfl)), T.1.1, T.2.1.1, T1.1.1, T1.2.1.1, q4.1 _ _ (b4.1 _ _ a5), q4.1 _ _ b5, .inl a6, .inl a7, .inl b6, .inl b7, by rw [wr_nei (by omega), wr_self], wr_self _ _ _ _, ?_, ?_, fun i hi hi2 => ⟨?_, ?_⟩, l3.weak (fun _ h => h) (fun z hz => .inl (hz.elim .inl .inr)), (bxT.ex (b14 (by decide)) (by decide) q8 (fun x hx => (b3.c0.1 x hx).2) b3.c0.2.2.1 q3.c0.2.2.1).to q5.symm rfl (fun _ => rfl), q5⟩
    · rw [gc, bV_ok q1, r27, c_in (by omega) (by omega) (by omega), c_in (by omega) (by omega) (by omega), c_in (by omega) (by omega) (by omega), e1, c_in (by omega) (by omega) (by omega), i32_ixn (by omega), i32_ixn (by omega), e149_355]
    · rw [q7.rd (j := 179) rfl, wr_nei (by omega), wr_self]
    · rw [q7.rd (j := 179) rfl, wr_self]
    · rw [wr_nei hi2, wr_nei hi, q6.rd (j := 67) rfl, ws.rd (j := 67) rfl]
    · rw [q7.rd (j := 179) rfl, wr_nei hi2, wr_nei hi, wt.rd (j := 179) rfl]
end BOUND
