/-! TYPING, BOTH: two are made alike -/
section TJA
variable {L : Nat} {xs : Nat → Int32} {σ σ' τ τ' : tvS}
theorem CT.no0 {K1 K2 N : Nat} {C : tG} {c : Nat → Nat} {h : Nat → Nat → Prop} {H S : Nat} (hT : CT K1 K2 N C c h H S σ) (u : Nat) : ¬ h 0 u := by
  obtain ⟨hl, hv, h1, h2, h3, h4, h5, h6, h7, h8⟩ := hT
  rw [h8]
  rintro ⟨i, hi, _⟩
  have k0 : C.1 0 = 1 := (h1.2.2.2.2.2.2.2 0).mpr rfl
  have r0 : c 0 = 0 := (h1.2.2.2.2.2.2.2 _).mp (by rw [h6.2.1 0 (by omega)]; exact k0)
  have := h3 0 h1.2.1 r0 (fun q => by rw [q] at hi; cases hi)
  omega
theorem MY.no0 {N : Nat} {M : tG} {m : Nat → Nat} {h : Nat → Nat → Prop} {H Sm Sh : Nat} (hT : MY N M m h H Sm Sh τ) (u : Nat) : ¬ h 0 u := by
  obtain ⟨hl, hv, ⟨h1, h2, h3, h4, h5⟩, h6, h7, h8⟩ := hT
  rw [h8]
  rintro ⟨i, hi, _⟩
  have k0 : M.1 0 = 1 := (h1.2.2.2.2.2.2 0).mpr rfl
  have r0 : m 0 = 0 := (h1.2.2.2.2.2.2 _).mp (by rw [h6.2.1 0 (by omega)]; exact k0)
  have := h3 0 h1.2.1 r0 (fun q => by rw [q] at hi; cases hi)
  omega
/-- those that are known are closed -/
theorem zG.dom {C : tG} {c : Nat → Nat} {M : tG} {m : Nat → Nat} {Z : Nat → Nat → Prop} (hZ : zG C c M m Z) (hP : gP C c) (hI : ∀ y, m (m y) = m y) : (∀ x x', c x = c x' → (∃ y, Z x y) → ∃ y, Z x' y) ∧ (∀ x, (∃ y, Z x y) → 2 ≤ C.1 x → (∃ y, Z (C.2.1 x) y) ∧ (C.1 x ≠ 3 → ∃ y, Z (C.2.2 x) y)) := by
  refine ⟨fun x x' e ⟨y, hy⟩ => ⟨y, hZ.2.1 _ _ _ _ hy e.symm rfl⟩, fun x ⟨y, hy⟩ hk => ?_⟩
  have k := hP.2.1 x (by omega)
  have kk := hZ.2.2.2 x y hy (by omega)
  have cl := hP.2.2.1 x (c x) (hP.1 x).symm hk k.symm
  exact ⟨⟨_, hZ.2.1 _ _ _ _ kk.1 cl.1 rfl⟩, fun h3 => ⟨_, hZ.2.1 _ _ _ _ (kk.2 (by omega)) (cl.2 h3) rfl⟩⟩
theorem PDK.alike {B N : Nat} {G : tG} {r r' : Nat → Nat} {h h' : Nat → Nat → Prop} {Z : Nat → Nat → Prop} {m' : Nat → Nat} {pd : List (Nat × List Nat × (Nat → Nat))} {x1 x2 : Nat} (hp : PDK B N G r h Z pd) (hP : gP G r) (ha : alC G r x1 x2 r') (hH : alH r h r' h') (hi1 : ∀ x, G.1 x = 1 ↔ x = 0)
    (hV : ∀ V : Nat → Prop, V = (fun x => (∃ y, Z x y) ∧ (B ≤ x ∨ r x = 0)) → (∀ x y, r x = r y → V x → V y) ∧ V x1 ∧ V x2 ∧ (∀ x, V x → 2 ≤ G.1 x → V (G.2.1 x) ∧ (G.1 x ≠ 3 → V (G.2.2 x)))) : PDK B N G r' h' (zN Z r' m') pd := by
  obtain ⟨v1, v2, v3, v4⟩ := hV _ rfl
  refine ⟨fun e he => ?_, hp.2⟩
  obtain ⟨a, b⟩ := hp.1 e he
  have hn : ∀ t, t ∈ e.2.1 → ¬ ((∃ y, Z t y) ∧ (B ≤ t ∨ r t = 0)) ∧ ¬ ((∃ y, Z (e.2.2 t) y) ∧ (B ≤ e.2.2 t ∨ r (e.2.2 t) = 0)) := by
    intro t ht
    obtain ⟨b1, b2, b3, b4, b5⟩ := b t ht
    refine ⟨fun k => ?_, fun ⟨⟨y, hy⟩, _⟩ => b5 y hy⟩
    rcases k.2 with k | k
    · omega
    · rw [(a.1 t ht).1] at k; exact b2 k
  have a' := a.alike hP ha hH hi1 _ v1 v2 v3 v4 hn
  refine ⟨a', fun t ht => ?_⟩
  obtain ⟨b1, b2, b3, b4, b5⟩ := b t ht
  refine ⟨b1, b2, b3, b4, ?_⟩
  rintro y ⟨x0, y0, q1, q2, q3⟩
  rw [(a'.1 t ht).2.2.1] at q2
  have := (a'.1 t ht).2.2.2.1 x0 q2.symm
  rw [this] at q1
  exact b5 _ q1
/-- both make two alike, or neither can -/
theorem TJ.alike {K1 K2 Bc Bm f : Nat} {Rc Rm : Nat → Nat → Prop} {pd : List (Nat × List Nat × (Nat → Nat))} {n u a rc : Nat} {T : tyJ} (hT : TJ K1 K2 Bc Bm f Rc Rm pd n u (a + 1) rc T σ τ) {x1 x2 y1 y2 : Nat} (z1 : T.2.2 x1 y1) (z2 : T.2.2 x2 y2) (c1 : cuN Bc x1) (c2 : cuN Bc x2) (m1 : cuN Bm y1) (m2 : cuN Bm y2) (d dm : Nat) (v3 v4 v5 v6 w3 w4 w5 w6 : Value) :
    (∃ σ' τ', rn L xs (d + 4) 94 0 [.ref 50, .int (i32 x1), .int (i32 x2), v3, v4, v5, v6] [] σ = some (.inl (some (.int 0)), σ') ∧ rn L xs (dm + 4) 341 0 [.ref 123, .int (i32 y1), .int (i32 y2), w3, w4, w5, w6] [] τ = some (.inl (some (.int 0)), τ') ∧ ROOM K1 K2 σ' ∧ frT FAK [61] [12, 14] σ σ' ∧ frM FMB [72, 84] τ τ') ∨
    (∃ σ' τ' T', rn L xs (d + 4) 94 0 [.ref 50, .int (i32 x1), .int (i32 x2), v3, v4, v5, v6] [] σ = some (.inl (some (.int 1)), σ') ∧ rn L xs (dm + 4) 341 0 [.ref 123, .int (i32 y1), .int (i32 y2), w3, w4, w5, w6] [] τ = some (.inl (some (.int 1)), τ') ∧ TJ K1 K2 Bc Bm f Rc Rm pd n u a rc T' σ' τ' ∧ exT Bc Bm T T' ∧ T'.1.2.2.1 x1 = T'.1.2.2.1 x2 ∧ T'.1.1 = T.1.1 ∧ T'.1.2.1 = T.1.2.1 ∧ T'.2.1.1 = T.2.1.1 ∧ T'.2.1.2.1 = T.2.1.2.1 ∧ frT FAK [61] [12, 14] σ σ' ∧ frM FMB [72, 84] τ τ' ∧ LOC T T' (fun b => b = x1 ∨ b = x2) (fun b => b = x1 ∨ b = x2)) := by
  obtain ⟨⟨Nc, C, c, hc, Hc, S⟩, ⟨Nm, M, m, hm, Hm, Sm, Sh⟩, Z⟩ := T
  have hT0 := hT
  obtain ⟨⟨hC, hM, hJ⟩, fC, fM, hP, b1, b2, b3, b4, b5, b6, b7⟩ := hT
  have hC : CT K1 K2 Nc C c hc Hc S σ := hC
  have hM : MY Nm M m hm Hm Sm Sh τ := hM
  have hJ : JZ Nc C c hc Nm M m hm Z := hJ
  have b1 : Nc + n + u ≤ 122000 := b1
  have b2 : S + 100000 * (a + 1) ≤ 1000000000 := b2
  have b3 : Nm + n + u + 64 * rc ≤ 99000 := b3
  have b4 : ct (fun y => 2 ≤ M.1 y) Nm + n + 24 * rc ≤ 49990 := b4
  have b6 : Sm + 100001 * (a + 1) + rc ≤ 1000000000 := b6
  have b7 : Sh + 100001 * (a + 1) + 20000 * rc ≤ 1500000000 := b7
  rcases J_alike (L := L) (xs := xs) hC hM hJ (by omega) (by omega) (by omega) (by omega) (by omega) z1 z2 d dm v3 v4 v5 v6 w3 w4 w5 w6 with h | ⟨σ', τ', c', hc', m', hm', Sm', Sh', i1, i2, i3, i4, i5, i6, i7, i8, i9, i10, i11, i12, i13⟩
  · exact .inl h
  · right
    obtain ⟨gC, iC1⟩ : gP C c ∧ ∀ x, C.1 x = 1 ↔ x = 0 := by
      obtain ⟨hl, hv, h1, _, _, _, _, h6, _⟩ := hC
      exact ⟨h6, h1.2.2.2.2.2.2.2⟩
    obtain ⟨gM, iM1⟩ : gP M m ∧ ∀ x, M.1 x = 1 ↔ x = 0 := by
      obtain ⟨hl, hv, ⟨h1, _⟩, h6, _⟩ := hM
      exact ⟨h6, h1.2.2.2.2.2.2⟩
    have dC := hJ.1.dom gC gM.1
    have dM := hJ.1.flip.dom gM gC.1
    obtain ⟨⟨fC', lowC, hsC⟩, vC⟩ := fC.alike gC i6.1 i7 iC1 hC.no0 i3.no0 (fun x => ∃ y, Z x y) dC.1 dC.2 ⟨_, z1⟩ ⟨_, z2⟩ c1 c2
    obtain ⟨⟨fM', lowM, _⟩, vM⟩ := fM.alike gM i8.1 i9 iM1 hM.no0 i4.no0 (fun y => ∃ x, Z x y) dM.1 dM.2 ⟨_, z1⟩ ⟨_, z2⟩ m1 m2
    have hP' := PDK.alike (m' := m') hP gC i6.1 i7 iC1 vC
    refine ⟨σ', τ', ((Nc, C, c', hc', Hc, S + 2), (Nm, M, m', hm', Hm, Sm', Sh'), zN Z c' m'), i1, i2, ⟨⟨i3, i4, i5⟩, fC', fM', hP', b1, ?_, b3, b4, b5, ?_, ?_⟩, ⟨fun x y h => ⟨x, y, h, rfl, rfl⟩, fun x hx => ?_, Nat.le_refl _, Nat.le_refl _, lowC, lowM, fun _ _ => rfl, fun x hx => ⟨⟨rfl, rfl⟩, hsC x hx⟩⟩, i6.1.2.2.2.2.1, rfl, rfl, rfl, rfl, i12, i13, LOC.one (fun x hx => (hT0.c0.1 x hx).2) i6.1 i7⟩
    · show S + 2 + 100000 * a ≤ _; omega
    · show Sm' + 100001 * a + rc ≤ _; omega
    · show Sh' + 100001 * a + 20000 * rc ≤ _; omega
    · show C.1 (c' x) = C.1 (c x)
      have hx : C.1 (c x) ≠ 0 := hx
      have := i6.1.2.1 (c x) hx
      rw [i6.1.2.2.2.1 _ _ (gC.1 x)] at this; exact this
end TJA
