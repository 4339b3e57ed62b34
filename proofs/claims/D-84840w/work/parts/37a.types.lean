/-! TYPES OF BOTH, as a whole -/
section TYJ
variable {L : Nat} {xs : Nat → Int32} {σ σ' τ τ' : tvS}
/-- the component's types: how many, kinds and parts, roots, what is held, how many of these, stamps -/
def CT (K1 K2 N : Nat) (C : tG) (c : Nat → Nat) (h : Nat → Nat → Prop) (H S : Nat) (σ : tvS) : Prop :=
  ∃ (hl : Nat → List Nat) (hv : Nat → Nat), TC N C c σ ∧ HO N c hl hv H σ ∧ HK N C c hl ∧ STP N S σ ∧ ROOM K1 K2 σ ∧ gP C c ∧ (∀ t, N ≤ t → hl t = []) ∧ h = hC hl hv
/-- the model's -/
def MY (N : Nat) (M : tG) (m : Nat → Nat) (h : Nat → Nat → Prop) (H Sm Sh : Nat) (τ : tvS) : Prop :=
  ∃ (hl : Nat → List Nat) (hv : Nat → Nat), MS N M m hl hv H Sm Sh τ ∧ gP M m ∧ (∀ t, N ≤ t → hl t = []) ∧ h = hC hl hv
/-- both, held against each other -/
def JZ (Nc : Nat) (C : tG) (c : Nat → Nat) (hc : Nat → Nat → Prop) (Nm : Nat) (M : tG) (m : Nat → Nat) (hm : Nat → Nat → Prop) (Z : Nat → Nat → Prop) : Prop :=
  zG C c M m Z ∧ zH C c hc M m hm Z ∧ (∀ x y, Z x y → x < Nc ∧ y < Nm) ∧ Z 0 0
theorem TC.unq {N : Nat} {C : tG} {c : Nat → Nat} (h : TC N C c σ) {n : Nat} (hn : N ≤ n) (x : Nat) (e : c x = n) : x = n := by
  by_cases q : x < N
  · have := h.rlt q; omega
  · have := (h.2.2.2.2.2.1 x (by omega)).1; omega
theorem TM.unq {N : Nat} {C : tG} {c : Nat → Nat} (h : TM N C c σ) {n : Nat} (hn : N ≤ n) (x : Nat) (e : c x = n) : x = n := by
  by_cases q : x < N
  · have := h.rlt q; omega
  · have := (h.2.2.2.2.1 x (by omega)).1; omega
theorem TC.kid {N : Nat} {C : tG} {c : Nat → Nat} (h : TC N C c σ) (x : Nat) (hk : 2 ≤ C.1 x) : C.2.1 x < N ∧ (C.1 x ≠ 3 → C.2.2 x < N) := by
  have hx : x < N := by
    apply Classical.byContradiction
    intro q
    have := (h.2.2.2.2.2.1 x (by omega)).2
    omega
  obtain ⟨_, _, a⟩ := h.2.2.2.2.2.2.1 x hx
  exact ⟨(a hk).2.1, fun h3 => ((a hk).2.2 h3).2⟩
theorem TM.kid {N : Nat} {C : tG} {c : Nat → Nat} (h : TM N C c σ) (x : Nat) (hk : 2 ≤ C.1 x) : C.2.1 x < N ∧ (C.1 x ≠ 3 → C.2.2 x < N) := by
  have hx : x < N := by
    apply Classical.byContradiction
    intro q
    have := (h.2.2.2.2.1 x (by omega)).2
    omega
  obtain ⟨_, _, a⟩ := h.2.2.2.2.2.1 x hx
  exact ⟨(a hk).2.1, fun h3 => ((a hk).2.2 h3).2⟩
theorem HK.add {N k a b : Nat} {C : tG} {c : Nat → Nat} {hl : Nat → List Nat} (h : HK N C c hl) (h0 : hl N = []) : HK (N + 1) (gAdd C N k a b) c hl := by
  intro t ht hr hne
  by_cases e : t = N
  · rw [e] at hne; exact absurd h0 hne
  · rw [(gAdd_o e).1]; exact h t (by omega) hr hne
/-- one more type of the component's -/
theorem CT.add {K1 K2 N : Nat} {C : tG} {c : Nat → Nat} {h : Nat → Nat → Prop} {H S : Nat} (hT : CT K1 K2 N C c h H S σ) (hN : N < 122880) {k a b : Nat} {x2 x3 : Int32} (hk : k ≤ 4) (hk1 : k ≠ 1) (hkid : 2 ≤ k → x2 = i32 (a : Int) ∧ a < N ∧ (k ≠ 3 → x3 = i32 (b : Int) ∧ b < N)) (d : Nat) (v4 : Value) :
    ∃ σ', rn L xs (d + 2) 79 0 [.ref 50, .int (i32 k), .int x2, .int x3, v4] [] σ = some (.inl (some (.int (i32 N))), σ') ∧ CT K1 K2 (N + 1) (gAdd C N k a b) c h H S σ' ∧ frT gro8 gro8 [8] σ σ' := by
  obtain ⟨hl, hv, h1, h2, h3, h4, h5, h6, h7, h8⟩ := hT
  obtain ⟨σ', a1, a2, a3, a4, a5, a6⟩ := add_c (L := L) (xs := xs) (K := fun _ => True) (K' := fun _ => True) (h1.q _) h2 h4 h5 hN (h7 N (Nat.le_refl _)) hk hk1 (fun _ _ _ => trivial) (fun q _ => hkid q) d v4
  refine ⟨σ', a1, ⟨hl, hv, a2.all (fun _ _ _ => trivial), a3, h3.add (h7 N (Nat.le_refl _)), a4, a5, ?_, fun t ht => h7 t (by omega), h8⟩, a6.2⟩
  exact h6.add (h1.2.2.2.2.2.1 N (Nat.le_refl _)).1 (h1.unq (Nat.le_refl _)) (fun x q => ⟨by have := (h1.kid x q).1; omega, fun q3 => by have := (h1.kid x q).2 q3; omega⟩) (fun q => ⟨by have := (hkid q).2.1; omega, fun q3 => by have := ((hkid q).2.2 q3).2; omega⟩)
/-- one more type of the model's -/
theorem MY.add {N : Nat} {M : tG} {m : Nat → Nat} {h : Nat → Nat → Prop} {H Sm Sh : Nat} (hT : MY N M m h H Sm Sh τ) (hN : N < 100000) {k a b : Nat} {x2 x3 : Int32} (hk : k ≤ 4) (hk1 : k ≠ 1) (hkid : 2 ≤ k → x2 = i32 (a : Int) ∧ a < N ∧ (k ≠ 3 → x3 = i32 (b : Int) ∧ b < N)) (d : Nat) (v4 : Value) :
    ∃ τ', rn L xs (d + 1) 331 0 [.ref 123, .int (i32 k), .int x2, .int x3, v4] [] τ = some (.inl (some (.int (i32 N))), τ') ∧ MY (N + 1) (gAdd M N k a b) m h H Sm Sh τ' ∧ frM gro9 [63] τ τ' := by
  obtain ⟨hl, hv, ⟨h1, h2, h3, h4, h5⟩, h6, h7, h8⟩ := hT
  obtain ⟨τ', a1, a2, a3, a4, a5, a6⟩ := add_m (L := L) (xs := xs) (K := fun _ => True) (K' := fun _ => True) (h1.q _) h2 h4 h5 hN (h7 N (Nat.le_refl _)) hk hk1 (fun _ _ _ => trivial) (fun q _ => hkid q) d v4
  refine ⟨τ', a1, ⟨hl, hv, ⟨a2.all (fun _ _ _ => trivial), a3, h3.add (h7 N (Nat.le_refl _)), a4, a5⟩, ?_, fun t ht => h7 t (by omega), h8⟩, a6.2⟩
  exact h6.add (h1.2.2.2.2.1 N (Nat.le_refl _)).1 (h1.unq (Nat.le_refl _)) (fun x q => ⟨by have := (h1.kid x q).1; omega, fun q3 => by have := (h1.kid x q).2 q3; omega⟩) (fun q => ⟨by have := (hkid q).2.1; omega, fun q3 => by have := ((hkid q).2.2 q3).2; omega⟩)
/-- a type that both have newly made: mates from now on -/
theorem zG.pair {C : tG} {c : Nat → Nat} {hc : Nat → Nat → Prop} {M : tG} {m : Nat → Nat} {hm : Nat → Nat → Prop} {Z : Nat → Nat → Prop} {n n' : Nat} (hZ : zG C c M m Z) (hH : zH C c hc M m hm Z) (hIc : ∀ x, c (c x) = c x) (hIm : ∀ y, m (m y) = m y)
    (cn : c n = n) (cu : ∀ x, c x = n → x = n) (mn : m n' = n') (mu : ∀ y, m y = n' → y = n') (fc : ∀ y, ¬ Z n y) (fm : ∀ x, ¬ Z x n') (hk : C.1 n = M.1 n') (h0 : ∀ u, ¬ hc n u) (h0' : ∀ v, ¬ hm n' v)
    (hkid : 2 ≤ C.1 n → zA Z n n' (C.2.1 n) (M.2.1 n') ∧ (C.1 n ≠ 3 → zA Z n n' (C.2.2 n) (M.2.2 n'))) : zG C c M m (zA Z n n') ∧ zH C c hc M m hm (zA Z n n') := by
  have nc : ∀ {x y}, Z x y → c x ≠ n := fun {x y} hz e => fc (m y) (by rw [← e]; exact hZ.2.1 _ _ _ _ hz (hIc _) (hIm _))
  have nm : ∀ {x y}, Z x y → m y ≠ n' := fun {x y} hz e => fm (c x) (by rw [← e]; exact hZ.2.1 _ _ _ _ hz (hIc _) (hIm _))
  refine ⟨⟨?_, ?_, ?_, ?_⟩, ?_, ?_⟩
  · rintro x y x' y' (p | ⟨e1, e2⟩) (q | ⟨e1', e2'⟩)
    · exact hZ.1 _ _ _ _ p q
    · rw [e1', e2', cn, mn]; exact ⟨fun h => absurd h (nc p), fun h => absurd h (nm p)⟩
    · rw [e1, e2, cn, mn]; exact ⟨fun h => absurd h.symm (nc q), fun h => absurd h.symm (nm q)⟩
    · rw [e1, e2, e1', e2']; exact ⟨fun _ => rfl, fun _ => rfl⟩
  · rintro x y x' y' (p | ⟨e1, e2⟩) f1 f2
    · exact .inl (hZ.2.1 _ _ _ _ p f1 f2)
    · rw [e1, cn] at f1
      rw [e2, mn] at f2
      exact .inr ⟨cu _ f1, mu _ f2⟩
  · rintro x y (p | ⟨e1, e2⟩)
    · exact hZ.2.2.1 x y p
    · rw [e1, e2, cn, mn, hk]
  · rintro x y (p | ⟨e1, e2⟩) h2
    · have := hZ.2.2.2 x y p h2
      exact ⟨.inl this.1, fun h3 => .inl (this.2 h3)⟩
    · rw [e1, cn] at h2 ⊢
      rw [e2, mn]
      exact hkid h2
  · rintro x y u (p | ⟨e1, e2⟩) hu h1
    · obtain ⟨v, q1, q2⟩ := hH.1 x y u p hu h1
      exact ⟨v, q1, .inl q2⟩
    · rw [e1, cn] at hu; exact absurd hu (h0 u)
  · rintro x y v (p | ⟨e1, e2⟩) hv h1
    · obtain ⟨u, q1, q2⟩ := hH.2 x y v p hv h1
      exact ⟨u, q1, .inl q2⟩
    · rw [e2, mn] at hv; exact absurd hv (h0' v)
/-- the tables of one side grow, the mates stay -/
theorem zG.growC {C C' : tG} {c : Nat → Nat} {hc : Nat → Nat → Prop} {M : tG} {m : Nat → Nat} {hm : Nat → Nat → Prop} {Z : Nat → Nat → Prop} (hZ : zG C c M m Z) (hH : zH C c hc M m hm Z) (hg : ∀ x y, Z x y → C'.1 (c x) = C.1 (c x) ∧ C'.2.1 (c x) = C.2.1 (c x) ∧ C'.2.2 (c x) = C.2.2 (c x)) (hint : ∀ y, C'.1 y = 1 ↔ C.1 y = 1) : zG C' c M m Z ∧ zH C' c hc M m hm Z := by
  refine ⟨⟨hZ.1, hZ.2.1, fun x y h => by rw [(hg x y h).1]; exact hZ.2.2.1 x y h, fun x y h hk => ?_⟩, fun x y u a b k => hH.1 x y u a b (fun q => k ((hint _).mpr q)), fun x y v a b k => hH.2 x y v a b k⟩
  rw [(hg x y h).1] at hk ⊢
  rw [(hg x y h).2.1, (hg x y h).2.2]
  exact hZ.2.2.2 x y h hk
theorem zG.growM {C : tG} {c : Nat → Nat} {hc : Nat → Nat → Prop} {M M' : tG} {m : Nat → Nat} {hm : Nat → Nat → Prop} {Z : Nat → Nat → Prop} (hZ : zG C c M m Z) (hH : zH C c hc M m hm Z) (hg : ∀ x y, Z x y → M'.1 (m y) = M.1 (m y) ∧ M'.2.1 (m y) = M.2.1 (m y) ∧ M'.2.2 (m y) = M.2.2 (m y)) (hint : ∀ y, M'.1 y = 1 ↔ M.1 y = 1) : zG C c M' m Z ∧ zH C c hc M' m hm Z := by
  have := zG.growC hZ.flip hH.flip (fun x y h => hg y x h) hint
  exact ⟨this.1.flip, this.2.flip⟩
def trL (N : Nat) (hl : Nat → List Nat) : Nat → List Nat := fun t => if t < N then hl t else []
theorem trL_lt {N t : Nat} {hl : Nat → List Nat} (h : t < N) : trL N hl t = hl t := if_pos h
theorem trL_ge {N t : Nat} {hl : Nat → List Nat} (h : N ≤ t) : trL N hl t = [] := if_neg (by omega)
theorem HO.tr {N : Nat} {r : Nat → Nat} {hl : Nat → List Nat} {hv : Nat → Nat} {H : Nat} (h : HO N r hl hv H σ) : HO N r (trL N hl) hv H σ := by
  obtain ⟨a1, a2, a3, a4, a5, a6⟩ := h
  refine ⟨a1, a2, a3, a4, fun t ht hr => by rw [trL_lt ht]; exact a5 t ht hr, fun t t' i ht ht' hr hr' => by rw [trL_lt ht, trL_lt ht']; exact a6 t t' i ht ht' hr hr'⟩
theorem HM.tr {N : Nat} {r : Nat → Nat} {hl : Nat → List Nat} {hv : Nat → Nat} {H : Nat} (h : HM N r hl hv H σ) : HM N r (trL N hl) hv H σ := by
  obtain ⟨a1, a2, a4, a5, a6⟩ := h
  refine ⟨a1, a2, a4, fun t ht hr => by rw [trL_lt ht]; exact a5 t ht hr, fun t t' i ht ht' hr hr' => by rw [trL_lt ht, trL_lt ht']; exact a6 t t' i ht ht' hr hr'⟩
theorem HK.tr {N : Nat} {G : tG} {r : Nat → Nat} {hl : Nat → List Nat} (h : HK N G r hl) : HK N G r (trL N hl) := fun t ht hr hne => h t ht hr (by rw [trL_lt ht] at hne; exact hne)
theorem alH.tr {N : Nat} {r r' : Nat → Nat} {hl hl' : Nat → List Nat} {hv : Nat → Nat} (h : alH r (hC hl hv) r' (hC hl' hv)) (h0 : ∀ t, N ≤ t → hl t = []) (hr : ∀ t, N ≤ t → r t = t) (hr' : ∀ t, t < N → r' t < N) : alH r (hC hl hv) r' (hC (trL N hl') hv) := by
  refine ⟨fun t u ⟨i, hi, e⟩ => ?_, fun s v hv' => ?_⟩
  · by_cases q : r' t < N
    · rw [trL_lt q] at hi; exact h.1 t u ⟨i, hi, e⟩
    · rw [trL_ge (by omega)] at hi; cases hi
  · obtain ⟨u, ⟨i, hi, e⟩, e2⟩ := h.2 s v hv'
    refine ⟨u, ⟨i, ?_, e⟩, e2⟩
    by_cases q : s < N
    · rw [trL_lt (hr' s q)]; exact hi
    · obtain ⟨j, hj, _⟩ := hv'
      rw [hr s (by omega), h0 s (by omega)] at hj; cases hj
/-- both make two alike, or neither can -/
theorem J_alike {K1 K2 Nc : Nat} {C : tG} {c : Nat → Nat} {hc : Nat → Nat → Prop} {Hc S : Nat} {Nm : Nat} {M : tG} {m : Nat → Nat} {hm : Nat → Nat → Prop} {Hm Sm Sh : Nat} {Z : Nat → Nat → Prop} (hT : CT K1 K2 Nc C c hc Hc S σ) (hM : MY Nm M m hm Hm Sm Sh τ) (hJ : JZ Nc C c hc Nm M m hm Z) (hS : S + 2 < 2147483648) (hN : Nm ≤ 99990) (hB : ct (fun y => 2 ≤ M.1 y) Nm ≤ 49990) (hS1 : Sm + Nm < 2147483630) (hS2 : Sh + Nm < 2147483630)
    {x1 x2 y1 y2 : Nat} (z1 : Z x1 y1) (z2 : Z x2 y2) (d dm : Nat) (v3 v4 v5 v6 w3 w4 w5 w6 : Value) :
    (∃ σ' τ', rn L xs (d + 4) 94 0 [.ref 50, .int (i32 x1), .int (i32 x2), v3, v4, v5, v6] [] σ = some (.inl (some (.int 0)), σ') ∧ rn L xs (dm + 4) 341 0 [.ref 123, .int (i32 y1), .int (i32 y2), w3, w4, w5, w6] [] τ = some (.inl (some (.int 0)), τ') ∧ ROOM K1 K2 σ' ∧ frT FAK [61] [12, 14] σ σ' ∧ frM FMB [72, 84] τ τ') ∨
    (∃ σ' τ' c' hc' m' hm' Sm' Sh', rn L xs (d + 4) 94 0 [.ref 50, .int (i32 x1), .int (i32 x2), v3, v4, v5, v6] [] σ = some (.inl (some (.int 1)), σ') ∧ rn L xs (dm + 4) 341 0 [.ref 123, .int (i32 y1), .int (i32 y2), w3, w4, w5, w6] [] τ = some (.inl (some (.int 1)), τ') ∧ CT K1 K2 Nc C c' hc' Hc (S + 2) σ' ∧ MY Nm M m' hm' Hm Sm' Sh' τ' ∧ JZ Nc C c' hc' Nm M m' hm' (zN Z c' m') ∧ alS C c x1 x2 c' ∧ alH c hc c' hc' ∧ alS M m y1 y2 m' ∧ alH m hm m' hm' ∧ Sm' ≤ Sm + Nm + 1 ∧ Sh' ≤ Sh + Nm ∧ frT FAK [61] [12, 14] σ σ' ∧ frM FMB [72, 84] τ τ') := by
  obtain ⟨hl, hv, h1, h2, h3, h4, h5, h6, h7, h8⟩ := hT
  obtain ⟨ml, mv, g1, g6, g7, g8⟩ := hM
  obtain ⟨j1, j2, j3, j4⟩ := hJ
  have b1 := j3 _ _ z1
  have b2 := j3 _ _ z2
  have A := alike_c (L := L) (xs := xs) h6 h1 h2 h3 h5 h4 hS b1.1 b2.1 d v3 v4 v5 v6
  have B := alike_m (L := L) (xs := xs) hN hB g6 g1 hS1 hS2 b1.2 b2.2 dm w3 w4 w5 w6
  rcases A with ⟨σ', a1, a2, a3, a4⟩ | ⟨σ', c', hl', a1, a2, a3, a4, a5, a6, a7, a8, a9⟩
  · rcases B with ⟨τ', e1, e2, e3⟩ | ⟨τ', m', ml', Sm', Sh', e1, e2, e3, e4, e5, e6, e7⟩
    · exact .inl ⟨σ', τ', a1, e1, a3, a4, e3⟩
    · exact absurd a2.sym (al_ex j1.flip g6.1 h6 e5 z1 z2)
  · rcases B with ⟨τ', e1, e2, e3⟩ | ⟨τ', m', ml', Sm', Sh', e1, e2, e3, e4, e5, e6, e7⟩
    · exact absurd e2 (al_ex j1 h6.1 g6 a7.sym z1 z2)
    · have sC := a7.sym
      have cO : ∀ t, Nc ≤ t → c t = t := fun t ht => (h1.2.2.2.2.2.1 t ht).1
      have mO : ∀ t, Nm ≤ t → m t = t := fun t ht => (g1.1.2.2.2.2.1 t ht).1
      have cL : ∀ t, t < Nc → c' t < Nc := fun t ht => a2.rlt ht
      have mL : ∀ t, t < Nm → m' t < Nm := fun t ht => e2.1.rlt ht
      have A8 : alH c hc c' (hC (trL Nc hl') hv) := by rw [h8]; exact a8.tr h7 cO cL
      have E6 : alH m hm m' (hC (trL Nm ml') mv) := by rw [g8]; exact e6.tr g7 mO mL
      refine .inr ⟨σ', τ', c', hC (trL Nc hl') hv, m', hC (trL Nm ml') mv, Sm', Sh', a1, e1, ⟨trL Nc hl', hv, a2, a3.tr, a4.tr, a6, a5, sC.gP, fun t ht => trL_ge ht, rfl⟩, ⟨trL Nm ml', mv, ⟨e2.1, e2.2.1.tr, e2.2.2.1.tr, e2.2.2.2⟩, e5.gP, fun t ht => trL_ge ht, rfl⟩, ⟨al_zN j1 h6 g6 sC.1 e5.1 z1 z2, al_zH j1 h6 g6 sC.1 e5.1 z1 z2 j2 A8 E6, ?_, ⟨0, 0, j4, rfl, rfl⟩⟩, sC, A8, e5, E6, e3, e4, a9, e7⟩
      rintro x y ⟨x0, y0, q1, q2, q3⟩
      have q4 := j3 _ _ q1
      have q5 := cL x0 q4.1
      have q6 := mL y0 q4.2
      constructor
      · apply Classical.byContradiction
        intro k
        have := (a2.2.2.2.2.2.1 x (by omega)).1
        omega
      · apply Classical.byContradiction
        intro k
        have := (e2.1.2.2.2.2.1 y (by omega)).1
        omega
end TYJ
