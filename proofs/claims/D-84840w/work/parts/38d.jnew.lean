/-! TYPING, BOTH: new types -/
section TJN
variable {L : Nat} {xs : Nat → Int32} {σ σ' τ τ' : tvS}
theorem ct_add {N k a b : Nat} {G : tG} : ct (fun y => 2 ≤ (gAdd G N k a b).1 y) (N + 1) ≤ ct (fun y => 2 ≤ G.1 y) N + (if 2 ≤ k then 1 else 0) := by
  show ct (fun y => 2 ≤ (gAdd G N k a b).1 y) N + (if 2 ≤ (gAdd G N k a b).1 N then 1 else 0) ≤ _
  rw [ct_congr (q := fun y => 2 ≤ G.1 y) N (fun x hx => by rw [(gAdd_o (show x ≠ N by omega)).1]), gAdd_n.1]
  exact Nat.le_refl _
theorem FB1.add {B N k a b : Nat} {G : tG} {r : Nat → Nat} {h : Nat → Nat → Prop} {f : Nat} {RS : Nat → Nat → Prop} (hF : FB1 B N G r h f RS) (hk1 : k ≠ 1) (h0 : G.1 N = 0) (hkid : 2 ≤ k → cuN B a ∧ (k ≠ 3 → cuN B b)) : FB1 B (N + 1) (gAdd G N k a b) r h f RS := by
  obtain ⟨f1, f2, f3, f4, f5, f6, f7, f8⟩ := hF
  refine ⟨f1, by omega, f3, f4, fun x hx hk => ?_, fun g hg => (f6 g hg).keep (Nat.le_refl _) (fun x hx => gAdd_o (by omega)) f3 (fun y => ?_) (fun t _ u => Iff.rfl), f7, f8⟩
  · by_cases q : x = N
    · rw [q, gAdd_n.1] at hk ⊢
      rw [gAdd_n.2.1, gAdd_n.2.2]
      exact hkid hk
    · rw [(gAdd_o q).1] at hk ⊢
      rw [(gAdd_o q).2.1, (gAdd_o q).2.2]
      exact f5 x hx hk
  · by_cases q : y = N
    · rw [q, gAdd_n.1, h0]; exact ⟨fun k => absurd k hk1, fun k => by omega⟩
    · rw [(gAdd_o q).1]
theorem PDK.add {B N k a b : Nat} {G : tG} {r : Nat → Nat} {h : Nat → Nat → Prop} {Z : Nat → Nat → Prop} {pd : List (Nat × List Nat × (Nat → Nat))} (hp : PDK B N G r h Z pd) (hBN : B ≤ N) (hk1 : k ≠ 1) (h0 : G.1 N = 0) : PDK B (N + 1) (gAdd G N k a b) r h Z pd := by
  refine ⟨fun e he => ?_, hp.2⟩
  obtain ⟨q1, q2⟩ := hp.1 e he
  refine ⟨q1.keep (fun y => ?_) (fun t ht => ?_), fun t ht => ?_⟩
  · by_cases q : y = N
    · rw [q, gAdd_n.1, h0]; exact ⟨fun k => absurd k hk1, fun k => by omega⟩
    · rw [(gAdd_o q).1]
  · obtain ⟨b1, b2, b3, b4, b5⟩ := q2 t ht
    exact ⟨gAdd_o (by omega), gAdd_o (by omega), fun u => Iff.rfl, fun u => Iff.rfl⟩
  · obtain ⟨b1, b2, b3, b4, b5⟩ := q2 t ht
    exact ⟨b1, b2, b3, by omega, b5⟩
theorem PDK.zA {B N n n' : Nat} {G : tG} {r : Nat → Nat} {h : Nat → Nat → Prop} {Z : Nat → Nat → Prop} {pd : List (Nat × List Nat × (Nat → Nat))} (hp : PDK B N G r h Z pd) (hn : ∀ e, e ∈ pd → ∀ t, t ∈ e.2.1 → e.2.2 t ≠ n) : PDK B N G r h (zA Z n n') pd := by
  refine ⟨fun e he => ?_, hp.2⟩
  obtain ⟨q1, q2⟩ := hp.1 e he
  refine ⟨q1, fun t ht => ?_⟩
  obtain ⟨b1, b2, b3, b4, b5⟩ := q2 t ht
  refine ⟨b1, b2, b3, b4, ?_⟩
  rintro y (q | q)
  · exact b5 y q
  · exact hn e he t ht q.1
/-- both have one more type, and the two are mates -/
theorem TJ.new {K1 K2 Bc Bm f : Nat} {Rc Rm : Nat → Nat → Prop} {pd : List (Nat × List Nat × (Nat → Nat))} {n u a rc : Nat} {T : tyJ} (hT : TJ K1 K2 Bc Bm f Rc Rm pd (n + 1) u a rc T σ τ) {k x y x' y' : Nat} {i2 i3 j2 j3 : Int32} (hk : k ≤ 4) (hk1 : k ≠ 1)
    (hkid : 2 ≤ k → (i2 = i32 (x : Int) ∧ j2 = i32 (x' : Int) ∧ T.2.2 x x' ∧ cuN Bc x ∧ cuN Bm x') ∧ (k ≠ 3 → i3 = i32 (y : Int) ∧ j3 = i32 (y' : Int) ∧ T.2.2 y y' ∧ cuN Bc y ∧ cuN Bm y')) (d dm : Nat) (v4 w4 : Value) :
    ∃ σ' τ' T', rn L xs (d + 2) 79 0 [.ref 50, .int (i32 k), .int i2, .int i3, v4] [] σ = some (.inl (some (.int (i32 T.1.1))), σ') ∧ rn L xs (dm + 1) 331 0 [.ref 123, .int (i32 k), .int j2, .int j3, w4] [] τ = some (.inl (some (.int (i32 T.2.1.1))), τ') ∧
      TJ K1 K2 Bc Bm f Rc Rm pd n u a rc T' σ' τ' ∧ exT Bc Bm T T' ∧ T'.2.2 T.1.1 T.2.1.1 ∧ Bc ≤ T.1.1 ∧ Bm ≤ T.2.1.1 ∧ T'.1.2.1.1 (T'.1.2.2.1 T.1.1) = k ∧ frT gro8 gro8 [8] σ σ' ∧ frM gro9 [63] τ τ' ∧ LOC T T' (fun b => 2 ≤ k ∧ (b = x ∨ (k ≠ 3 ∧ b = y))) (fun b => b = T.1.1) ∧ yC T' = yC T ∧ yH T' = yH T ∧ (2 ≤ k → bxT T' T.1.1 k x y) := by
  obtain ⟨⟨Nc, C, c, hc, Hc, S⟩, ⟨Nm, M, m, hm, Hm, Sm, Sh⟩, Z⟩ := T
  obtain ⟨⟨hC, hM, hJ⟩, fC, fM, hP, b1, b2, b3, b4, b5, b6, b7⟩ := hT
  have hC : CT K1 K2 Nc C c hc Hc S σ := hC
  have hM : MY Nm M m hm Hm Sm Sh τ := hM
  have hJ : JZ Nc C c hc Nm M m hm Z := hJ
  have hkid : 2 ≤ k → (i2 = i32 (x : Int) ∧ j2 = i32 (x' : Int) ∧ Z x x' ∧ cuN Bc x ∧ cuN Bm x') ∧ (k ≠ 3 → i3 = i32 (y : Int) ∧ j3 = i32 (y' : Int) ∧ Z y y' ∧ cuN Bc y ∧ cuN Bm y') := hkid
  have b1 : Nc + (n + 1) + u ≤ 122000 := b1
  have b3 : Nm + (n + 1) + u + 64 * rc ≤ 99000 := b3
  have b4 : ct (fun y => 2 ≤ M.1 y) Nm + (n + 1) + 24 * rc ≤ 49990 := b4
  have zlt : ∀ p q, Z p q → p < Nc ∧ q < Nm := hJ.2.2.1
  obtain ⟨σ', q1, C1, w1⟩ := hC.add (L := L) (xs := xs) (by omega) (a := x) (b := y) (x2 := i2) (x3 := i3) hk hk1 (fun h2 => ⟨(hkid h2).1.1, (zlt _ _ (hkid h2).1.2.2.1).1, fun h3 => ⟨((hkid h2).2 h3).1, (zlt _ _ ((hkid h2).2 h3).2.2.1).1⟩⟩) d v4
  obtain ⟨τ', q2, M1, w2⟩ := hM.add (L := L) (xs := xs) (by omega) (a := x') (b := y') (x2 := j2) (x3 := j3) hk hk1 (fun h2 => ⟨(hkid h2).1.2.1, (zlt _ _ (hkid h2).1.2.2.1).2, fun h3 => ⟨((hkid h2).2 h3).2.1, (zlt _ _ ((hkid h2).2 h3).2.2.1).2⟩⟩) dm w4
  obtain ⟨gC, tC⟩ : gP C c ∧ TC Nc C c σ := by
    obtain ⟨hl, hv, h1, _, _, _, _, h6, _⟩ := hC
    exact ⟨h6, h1⟩
  obtain ⟨gM, tM⟩ : gP M m ∧ TM Nm M m τ := by
    obtain ⟨hl, hv, ⟨h1, _⟩, h6, _⟩ := hM
    exact ⟨h6, h1⟩
  have hCn : ∀ v, ¬ hc Nc v := by
    obtain ⟨hl, hv, _, _, _, _, _, _, h7, h8⟩ := hC
    intro v hvv
    rw [h8] at hvv
    obtain ⟨i, hi, _⟩ := hvv
    rw [h7 Nc (Nat.le_refl _)] at hi; cases hi
  have hMn : ∀ v, ¬ hm Nm v := by
    obtain ⟨hl, hv, _, _, h7, h8⟩ := hM
    intro v hvv
    rw [h8] at hvv
    obtain ⟨i, hi, _⟩ := hvv
    rw [h7 Nm (Nat.le_refl _)] at hi; cases hi
  have cN := tC.2.2.2.2.2.1 Nc (Nat.le_refl _)
  have mN := tM.2.2.2.2.1 Nm (Nat.le_refl _)
  have zz := zG.add (k := k) (a := x) (b := y) (a' := x') (b' := y') hJ.1 hJ.2.1 gC.1 gM.1 cN.1 (tC.unq (Nat.le_refl _)) mN.1 (tM.unq (Nat.le_refl _)) (fun q hq => by have := (zlt _ _ hq).1; omega) (fun q hq => by have := (zlt _ _ hq).2; omega) hk1 cN.2 mN.2 hCn hMn (fun h2 => ⟨(hkid h2).1.2.2.1, fun h3 => ((hkid h2).2 h3).2.2.1⟩)
  have hct := ct_add (N := Nm) (k := k) (a := x') (b := y') (G := M)
  have fBc : Bc ≤ Nc := fC.2.1
  have fBm := fM.2.1
  refine ⟨σ', τ', ((Nc + 1, gAdd C Nc k x y, c, hc, Hc, S), (Nm + 1, gAdd M Nm k x' y', m, hm, Hm, Sm, Sh), zA Z Nc Nm), q1, q2, ⟨⟨C1, M1, zz.1, zz.2, ?_, .inl hJ.2.2.2⟩, fC.add hk1 cN.2 (fun h2 => ⟨(hkid h2).1.2.2.2.1, fun h3 => ((hkid h2).2 h3).2.2.2.1⟩), fM.add hk1 mN.2 (fun h2 => ⟨(hkid h2).1.2.2.2.2, fun h3 => ((hkid h2).2 h3).2.2.2.2⟩), (hP.add fBc hk1 cN.2).zA (fun e he t ht => ?_), ?_, b2, ?_, ?_, b5, b6, b7⟩, ⟨fun p q h => .inl h, fun p hp => ?_, Nat.le_succ _, Nat.le_succ _, fun _ _ => rfl, fun _ _ => rfl, fun x hx => (gAdd_o (show x ≠ Nc by omega)).1, fun x hx => ⟨(gAdd_o (show x ≠ Nc by omega)).2, fun _ _ => Iff.rfl⟩⟩, .inr ⟨rfl, rfl⟩, fBc, fBm, ?_, w1, w2, LOC.add (fun x hx => (tC.2.2.2.2.2.1 x hx).2) (by omega), rfl, rfl, fun h2 => ?_⟩
  · rintro p q (h | h)
    · have := zlt _ _ h
      show p < Nc + 1 ∧ q < Nm + 1
      omega
    · show p < Nc + 1 ∧ q < Nm + 1
      omega
  · have := ((hP.1 e he).2 t ht).2.2.2.1
    have : e.2.2 t < Nc := this
    show e.2.2 t ≠ Nc
    omega
  · show Nc + 1 + n + u ≤ _; omega
  · show Nm + 1 + n + u + 64 * rc ≤ _; omega
  · show ct (fun y => 2 ≤ (gAdd M Nm k x' y').1 y) (Nm + 1) + n + 24 * rc ≤ _
    have : (if 2 ≤ k then 1 else 0) ≤ 1 := by split <;> omega
    omega
  · show (gAdd C Nc k x y).1 (c p) = C.1 (c p)
    have hp : C.1 (c p) ≠ 0 := hp
    exact (gAdd_o (fun e => hp (by rw [e]; exact cN.2))).1
  · show (gAdd C Nc k x y).1 (c Nc) = k
    rw [cN.1, gAdd_n.1]
  · show (gAdd C Nc k x y).1 (c Nc) = k ∧ c ((gAdd C Nc k x y).2.1 (c Nc)) = c x ∧ (k ≠ 3 → c ((gAdd C Nc k x y).2.2 (c Nc)) = c y)
    rw [cN.1, gAdd_n.1, gAdd_n.2.1, gAdd_n.2.2]
    exact ⟨rfl, rfl, fun _ => rfl⟩
end TJN
