/-! TYPING, BOTH: unknowns that only one side has made, and mates that are made later -/
section ALONE
variable {L : Nat} {xs : Nat → Int32} {σ σ' τ τ' : tvS}
variable {K1 K2 Bc Bm f : Nat} {Rc Rm : Nat → Nat → Prop} {pd : List (Nat × List Nat × (Nat → Nat))} {n u a rc : Nat} {T : tyJ}
theorem int_add {G : tG} {N k a b : Nat} (h0 : G.1 N = 0) (hk1 : k ≠ 1) (y : Nat) : (gAdd G N k a b).1 y = 1 ↔ G.1 y = 1 := by
  by_cases q : y = N
  · rw [q, gAdd_n.1, h0]; exact ⟨fun k => absurd k hk1, fun k => by omega⟩
  · rw [(gAdd_o q).1]
/-- an untouched unknown, that has no mate yet -/
def lone (N : Nat) (G : tG) (r : Nat → Nat) (h : Nat → Nat → Prop) (x : Nat) : Prop := x < N ∧ r x = x ∧ (∀ y, r y = x → y = x) ∧ G.1 x = 0 ∧ ∀ v, ¬ h x v
/-- one more unknown of the component's -/
theorem TJ.addC (hT : TJ K1 K2 Bc Bm f Rc Rm pd n (u + 1) a rc T σ τ) (d : Nat) :
    ∃ σ' T', rn L xs (d + 3) 81 0 [.ref 50] [] σ = some (.inl (some (.int (i32 (T.1.1 : Int)))), σ') ∧ TJ K1 K2 Bc Bm f Rc Rm pd n u a rc T' σ' τ ∧ exT Bc Bm T T' ∧ T'.2 = T.2 ∧ T'.1.1 = T.1.1 + 1 ∧ T'.1.2.2 = T.1.2.2 ∧ (∀ x, x < T.1.1 → T'.1.2.1.1 x = T.1.2.1.1 x) ∧ lone T'.1.1 T'.1.2.1 T'.1.2.2.1 T'.1.2.2.2.1 T.1.1 ∧ (∀ y, ¬ T'.2.2 T.1.1 y) ∧ Bc ≤ T.1.1 ∧ frT gro8 gro8 [8] σ σ' ∧ ∀ x, x < T.1.1 → T'.1.2.1.2.1 x = T.1.2.1.2.1 x ∧ T'.1.2.1.2.2 x = T.1.2.1.2.2 x := by
  obtain ⟨⟨Nc, C, c, hc, Hc, S⟩, ⟨Nm, M, m, hm, Hm, Sm, Sh⟩, Z⟩ := T
  obtain ⟨⟨hCt, hM, hJ⟩, fC, fM, hP, b1, b2, b3, b4, b5, b6, b7⟩ := hT
  have hCt : CT K1 K2 Nc C c hc Hc S σ := hCt
  have hJ : JZ Nc C c hc Nm M m hm Z := hJ
  have fC : FB1 Bc Nc C c hc f Rc := fC
  have hP : PDK Bc Nc C c hc Z pd := hP
  have b1 : Nc + n + (u + 1) ≤ 122000 := b1
  have b3 : Nm + n + (u + 1) + 64 * rc ≤ 99000 := b3
  obtain ⟨σ', q1, C1, w1⟩ := hCt.add (L := L) (xs := xs) (by omega) (k := 0) (a := 0) (b := 0) (x2 := i32 (-1)) (x3 := i32 (-1)) (by omega) (by omega) (fun h2 => by omega) d jv
  obtain ⟨gC, tC⟩ : gP C c ∧ TC Nc C c σ := by
    obtain ⟨hl, hv, h1, _, _, _, _, h6, _⟩ := hCt
    exact ⟨h6, h1⟩
  have hCn : ∀ v, ¬ hc Nc v := by
    obtain ⟨hl, hv, _, _, _, _, _, _, h7, h8⟩ := hCt
    intro v hvv
    rw [h8] at hvv
    obtain ⟨i, hi, _⟩ := hvv
    rw [h7 Nc (Nat.le_refl _)] at hi; cases hi
  have cN := tC.2.2.2.2.2.1 Nc (Nat.le_refl _)
  have gm : ∀ y, y < Nm → m y < Nm := fun y hy => by
    obtain ⟨hl, hv, ⟨h1, _⟩, _⟩ := hM
    exact h1.rlt hy
  have zz := zG.growC (C' := gAdd C Nc 0 0 0) hJ.1 hJ.2.1 (fun x y hz => gAdd_o (by have := tC.rlt (hJ.2.2.1 _ _ hz).1; omega)) (int_add cN.2 (by omega))
  refine ⟨σ', ((Nc + 1, gAdd C Nc 0 0 0, c, hc, Hc, S), (Nm, M, m, hm, Hm, Sm, Sh), Z), unk_c d q1, ⟨⟨C1, hM, zz.1, zz.2, ?_, hJ.2.2.2⟩, fC.add (by omega) cN.2 (fun h => by omega), fM, hP.add fC.2.1 (by omega) cN.2, ?_, b2, ?_, b4, b5, b6, b7⟩, ⟨fun _ _ h => h, fun x hx => ?_, Nat.le_succ _, Nat.le_refl _, fun _ _ => rfl, fun _ _ => rfl, fun x hx => (gAdd_o (show x ≠ Nc by have := fC.2.1; omega)).1, fun x hx => ⟨(gAdd_o (show x ≠ Nc by have := fC.2.1; omega)).2, fun _ _ => Iff.rfl⟩⟩, rfl, rfl, rfl, fun x hx => ?_, ⟨Nat.lt_succ_self _, cN.1, tC.unq (Nat.le_refl _), gAdd_n.1, hCn⟩, fun y hz => ?_, fC.2.1, w1, fun x hx => (gAdd_o (show x ≠ Nc by have hx : x < Nc := hx; omega)).2⟩
  · intro x y h
    have := hJ.2.2.1 _ _ h
    show x < Nc + 1 ∧ y < Nm
    omega
  · show Nc + 1 + n + u ≤ _; omega
  · show Nm + n + u + 64 * rc ≤ _; omega
  · show (gAdd C Nc 0 0 0).1 (c x) = C.1 (c x)
    have hx : C.1 (c x) ≠ 0 := hx
    exact (gAdd_o (fun e => hx (by rw [e]; exact cN.2))).1
  · have hx : x < Nc := hx
    exact (gAdd_o (by omega)).1
  · have := (hJ.2.2.1 _ _ hz).1
    have : Nc < Nc := this
    omega
/-- one more unknown of the model's -/
theorem TJ.addM (hT : TJ K1 K2 Bc Bm f Rc Rm pd n (u + 1) a rc T σ τ) (d : Nat) :
    ∃ τ' T', rn L xs (d + 2) 333 0 [.ref 123] [] τ = some (.inl (some (.int (i32 (T.2.1.1 : Int)))), τ') ∧ TJ K1 K2 Bc Bm f Rc Rm pd n u a rc T' σ τ' ∧ exT Bc Bm T T' ∧ T'.1 = T.1 ∧ T'.2.2 = T.2.2 ∧ T'.2.1.1 = T.2.1.1 + 1 ∧ T'.2.1.2.2 = T.2.1.2.2 ∧ (∀ x, x < T.2.1.1 → T'.2.1.2.1.1 x = T.2.1.2.1.1 x) ∧ lone T'.2.1.1 T'.2.1.2.1 T'.2.1.2.2.1 T'.2.1.2.2.2.1 T.2.1.1 ∧ (∀ x, ¬ T'.2.2 x T.2.1.1) ∧ Bm ≤ T.2.1.1 ∧ frM gro9 [63] τ τ' := by
  obtain ⟨⟨Nc, C, c, hc, Hc, S⟩, ⟨Nm, M, m, hm, Hm, Sm, Sh⟩, Z⟩ := T
  obtain ⟨⟨hCt, hM, hJ⟩, fC, fM, hP, b1, b2, b3, b4, b5, b6, b7⟩ := hT
  have hM : MY Nm M m hm Hm Sm Sh τ := hM
  have hJ : JZ Nc C c hc Nm M m hm Z := hJ
  have fM : FB1 Bm Nm M m hm f Rm := fM
  have b1 : Nc + n + (u + 1) ≤ 122000 := b1
  have b3 : Nm + n + (u + 1) + 64 * rc ≤ 99000 := b3
  have b4 : ct (fun y => 2 ≤ M.1 y) Nm + n + 24 * rc ≤ 49990 := b4
  obtain ⟨τ', q1, M1, w1⟩ := hM.add (L := L) (xs := xs) (by omega) (k := 0) (a := 0) (b := 0) (x2 := i32 (-1)) (x3 := i32 (-1)) (by omega) (by omega) (fun h2 => by omega) d jv
  obtain ⟨gM, tM⟩ : gP M m ∧ TM Nm M m τ := by
    obtain ⟨hl, hv, ⟨h1, _⟩, h6, _⟩ := hM
    exact ⟨h6, h1⟩
  have hMn : ∀ v, ¬ hm Nm v := by
    obtain ⟨hl, hv, _, _, h7, h8⟩ := hM
    intro v hvv
    rw [h8] at hvv
    obtain ⟨i, hi, _⟩ := hvv
    rw [h7 Nm (Nat.le_refl _)] at hi; cases hi
  have mN := tM.2.2.2.2.1 Nm (Nat.le_refl _)
  have zz := zG.growM (M' := gAdd M Nm 0 0 0) hJ.1 hJ.2.1 (fun x y hz => gAdd_o (by have := tM.rlt (hJ.2.2.1 _ _ hz).2; omega)) (int_add mN.2 (by omega))
  have hct := ct_add (N := Nm) (k := 0) (a := 0) (b := 0) (G := M)
  refine ⟨τ', ((Nc, C, c, hc, Hc, S), (Nm + 1, gAdd M Nm 0 0 0, m, hm, Hm, Sm, Sh), Z), unk_m d q1, ⟨⟨hCt, M1, zz.1, zz.2, ?_, hJ.2.2.2⟩, fC, fM.add (by omega) mN.2 (fun h => by omega), hP, ?_, b2, ?_, ?_, b5, b6, b7⟩, ⟨fun _ _ h => h, fun x hx => rfl, Nat.le_refl _, Nat.le_succ _, fun _ _ => rfl, fun _ _ => rfl, fun _ _ => rfl, fun _ _ => ⟨⟨rfl, rfl⟩, fun _ _ => Iff.rfl⟩⟩, rfl, rfl, rfl, rfl, fun x hx => ?_, ⟨Nat.lt_succ_self _, mN.1, tM.unq (Nat.le_refl _), gAdd_n.1, hMn⟩, fun x hz => ?_, fM.2.1, w1⟩
  · intro x y h
    have := hJ.2.2.1 _ _ h
    show x < Nc ∧ y < Nm + 1
    omega
  · show Nc + n + u ≤ _; omega
  · show Nm + 1 + n + u + 64 * rc ≤ _; omega
  · show ct (fun y => 2 ≤ (gAdd M Nm 0 0 0).1 y) (Nm + 1) + n + 24 * rc ≤ _
    rw [if_neg (by omega)] at hct
    omega
  · have hx : x < Nm := hx
    exact (gAdd_o (by omega)).1
  · have := (hJ.2.2.1 _ _ hz).2
    have : Nm < Nm := this
    omega
/-- two lone unknowns become mates -/
theorem TJ.pair {x y : Nat} (hT : TJ K1 K2 Bc Bm f Rc Rm pd n u a rc T σ τ) (h1 : lone T.1.1 T.1.2.1 T.1.2.2.1 T.1.2.2.2.1 x) (h2 : lone T.2.1.1 T.2.1.2.1 T.2.1.2.2.1 T.2.1.2.2.2.1 y) (n1 : ∀ q, ¬ T.2.2 x q) (n2 : ∀ q, ¬ T.2.2 q y) (hd : ∀ e, e ∈ pd → ∀ t, t ∈ e.2.1 → e.2.2 t ≠ x) :
    TJ K1 K2 Bc Bm f Rc Rm pd n u a rc (T.1, T.2.1, zA T.2.2 x y) σ τ ∧ exT Bc Bm T (T.1, T.2.1, zA T.2.2 x y) := by
  obtain ⟨⟨Nc, C, c, hc, Hc, S⟩, ⟨Nm, M, m, hm, Hm, Sm, Sh⟩, Z⟩ := T
  obtain ⟨⟨hCt, hM, hJ⟩, fC, fM, hP, hb⟩ := hT
  have hJ : JZ Nc C c hc Nm M m hm Z := hJ
  obtain ⟨a1, a2, a3, a4, a5⟩ := h1
  obtain ⟨e1, e2, e3, e4, e5⟩ := h2
  have gC : gP C c := by
    obtain ⟨hl, hv, h1, _, _, _, _, h6, _⟩ := hCt
    exact h6
  have gM : gP M m := by
    obtain ⟨hl, hv, ⟨h1, _⟩, h6, _⟩ := hM
    exact h6
  have a4 : C.1 x = 0 := a4
  have e4 : M.1 y = 0 := e4
  have zz := zG.pair hJ.1 hJ.2.1 gC.1 gM.1 a2 a3 e2 e3 n1 n2 (a4.trans e4.symm) a5 e5 (fun h => by omega)
  refine ⟨⟨⟨hCt, hM, zz.1, zz.2, ?_, .inl hJ.2.2.2⟩, fC, fM, PDK.zA hP hd, hb⟩, ⟨fun _ _ h => .inl h, fun _ _ => rfl, Nat.le_refl _, Nat.le_refl _, fun _ _ => rfl, fun _ _ => rfl, fun _ _ => rfl, fun _ _ => ⟨⟨rfl, rfl⟩, fun _ _ => Iff.rfl⟩⟩⟩
  rintro p q (h | h)
  · exact hJ.2.2.1 _ _ h
  · rw [h.1, h.2]; exact ⟨a1, e1⟩
end ALONE
