/-! TYPING, BOTH: the type of a part by its kind -/
section OWN
variable {L : Nat} {xs : Nat → Int32} {σ σ' τ τ' : tvS}
def FMO : List Nat := 181 :: FCF
def FMF : List Nat := [63, 72, 73, 82, 84]
/-- what is to be shown of a part's own type -/
def OWN (L : Nat) (xs : Nat → Int32) (K1 K2 Bc Bm f : Nat) (Rc Rm : Nat → Nat → Prop) (pd pd' : List (Nat × List Nat × (Nat → Nat))) (n u a rc rc' : Nat) (T : tyJ) (p d dm : Nat) (σ τ : tvS) (Q : Nat → tyJ → tvS → tvS → Prop) : Prop :=
  ∃ (tc tm : Nat) (σ' τ' : tvS) (T' : tyJ), rn L xs (d + 5) 147 0 [.ref 65, .int (i32 (p : Int)), .int (i32 (f : Int))] [] σ = some (.inl (some (.int (i32 (tc : Int)))), σ') ∧ (∀ v, rn L xs (dm + 7) 334 0 [.ref 123, .int (i32 (f : Int)), .int (i32 (p : Int)), v] [] τ = some (.inl (some (.int (i32 (tm : Int)))), τ')) ∧ TJ K1 K2 Bc Bm f Rc Rm pd' n u a rc' T' σ' τ' ∧ exT Bc Bm T T' ∧ T'.2.2 tc tm ∧ cuN Bc tc ∧ cuN Bm tm ∧ frT gro8 gro8 [8] σ σ' ∧ Q tc T' σ' τ'
theorem unk_c {x : Int32} (d : Nat) (h : rn L xs (d + 2) 79 0 [.ref 50, .int 0, .int (i32 (-1)), .int (i32 (-1)), jv] [] σ = some (.inl (some (.int x)), σ')) : rn L xs (d + 3) 81 0 [.ref 50] [] σ = some (.inl (some (.int x)), σ') := by
  rw [e81_0 (d + 2), i32_raw, bI_ok h]
theorem unk_m {x : Int32} (d : Nat) (h : rn L xs (d + 1) 331 0 [.ref 123, .int 0, .int (i32 (-1)), .int (i32 (-1)), jv] [] τ = some (.inl (some (.int x)), τ')) : rn L xs (d + 2) 333 0 [.ref 123] [] τ = some (.inl (some (.int x)), τ') := by
  rw [e333_0 (d + 1), i32_raw, bI_ok h]
theorem own0_c {κ p : Nat} (hp : p < 4101) (hκ : κ < 21) (h : rd σ 16 p = i32 (κ : Int)) (d : Nat) (y : Int32) : rn L xs (d + 1) 147 0 [.ref 65, .int (i32 (p : Int)), .int y] [] σ = rn L xs (d + 1) 147 (t147 κ) [.ref 65, .int (i32 (p : Int)), .int y] [] σ := by
  rw [e147_0, c_in (by omega) (by omega) (by omega), i32_ixn (by omega), h, swk_of (sw147 κ hκ)]
theorem own0_m {κ p : Nat} (hp : p < 6000) (hκ : κ < 14) (h : rd τ 151 p = i32 (κ : Int)) (d : Nat) (y : Int32) (v : Value) : rn L xs (d + 1) 334 0 [.ref 123, .int y, .int (i32 (p : Int)), v] [] τ = rn L xs (d + 1) 334 (t334 κ) [.ref 123, .int y, .int (i32 (p : Int)), .int (rd τ 157 p)] [] τ := by
  rw [e334_0, c_in (by omega) (by omega) (by omega), c_in (by omega) (by omega) (by omega), i32_ixn (by omega), h, swk_of (sw334 κ hκ)]
variable {K1 K2 Bc Bm f : Nat} {Rc Rm : Nat → Nat → Prop} {pd : List (Nat × List Nat × (Nat → Nat))} {n u a rc : Nat} {T : tyJ} {p : Nat}
/-- a number, or what is counted -/
theorem own_num {κ : Nat} (hT : TJ K1 K2 Bc Bm f Rc Rm pd n u a rc T σ τ) (hp : p < 4101) (hκ : κ = 0 ∨ (8 ≤ κ ∧ κ ≤ 15)) (h1 : rd σ 16 p = i32 (κ : Int)) (h2 : rd τ 151 p = i32 (mKd κ : Int)) (d dm : Nat) : OWN L xs K1 K2 Bc Bm f Rc Rm pd pd n u a rc rc T p d dm σ τ (fun tc T' _ t => frM gro9 [63] τ t ∧ T' = T ∧ tc = 0) := by
  have e1 : t147 κ = 301 := by
    have h : ((List.range 21).all fun κ => decide (¬ (κ = 0 ∨ (8 ≤ κ ∧ κ ≤ 15)) ∨ t147 κ = 301)) = true := by decide
    have := List.all_eq_true.mp h κ (List.mem_range.mpr (by omega))
    rw [decide_eq_true_eq] at this
    exact this.elim (fun k => absurd hκ k) id
  have e2 : mKd κ < 14 ∧ t334 (mKd κ) = 68 := by
    have h : ((List.range 21).all fun κ => decide (¬ (κ = 0 ∨ (8 ≤ κ ∧ κ ≤ 15)) ∨ (mKd κ < 14 ∧ t334 (mKd κ) = 68))) = true := by decide
    have := List.all_eq_true.mp h κ (List.mem_range.mpr (by omega))
    rw [decide_eq_true_eq] at this
    exact this.elim (fun k => absurd hκ k) id
  refine ⟨0, 0, σ, τ, T, ?_, fun v => ?_, hT, exT.refl, hT.1.2.2.2.2.2, .inr rfl, .inr rfl, frT.refl, frM.refl, rfl, rfl⟩
  · rw [own0_c hp (by omega) h1 (d + 4), e1, e147_301 (d + 4), bI_ok (e93_0 (d + 3) σ)]; rfl
  · rw [own0_m (by omega) e2.1 h2 (dm + 6), e2.2, e334_68]; rfl
/-- a variable -/
theorem own_var {v x y : Nat} (hT : TJ K1 K2 Bc Bm f Rc Rm pd n u a rc T σ τ) (hp : p < 4101) (h1 : rd σ 16 p = i32 2) (h2 : rd τ 151 p = i32 3) (hv : v < 3002) (h3 : rd σ 27 p = i32 (v : Int)) (h4 : rd τ 157 p = i32 (v : Int)) (h5 : rd σ 67 v = i32 (x : Int)) (h6 : rd τ 179 v = i32 (y : Int)) (hz : T.2.2 x y) (c1 : cuN Bc x) (c2 : cuN Bm y) (d dm : Nat) : OWN L xs K1 K2 Bc Bm f Rc Rm pd pd n u a rc rc T p d dm σ τ (fun tc T' _ t => frM gro9 [63] τ t ∧ T' = T ∧ tc = x) := by
  refine ⟨x, y, σ, τ, T, ?_, fun w => ?_, hT, exT.refl, hz, c1, c2, frT.refl, frM.refl, rfl, rfl⟩
  · rw [own0_c (κ := 2) hp (by omega) h1 (d + 4), show t147 2 = 121 from rfl, e147_121, c_in (by omega) (by omega) (by omega), i32_ixn (by omega), h3, c_in (by omega) (by omega) (by omega), i32_ixn (by omega), h5]
  · rw [own0_m (κ := 3) (by omega) (by omega) h2 (dm + 6), show t334 3 = 81 from rfl, h4, e334_81, c_in (by omega) (by omega) (by omega), i32_ixn (by omega), h6]
/-- the empty list -/
theorem own_nil (hT : TJ K1 K2 Bc Bm f Rc Rm pd (n + 2) u a rc T σ τ) (hp : p < 4101) (h1 : rd σ 16 p = i32 1) (h2 : rd τ 151 p = i32 2) (d dm : Nat) : OWN L xs K1 K2 Bc Bm f Rc Rm pd pd n u a rc rc T p d dm σ τ (fun tc T' _ t => frM gro9 [63] τ t ∧ LOC T T' (fun _ => False) (fun b => b = tc) ∧ ∃ z, bxT T' tc 3 z 0) := by
  obtain ⟨s1, t1, T1, a1, a2, a3, a4, a5, a6, a7, a8, a9, a10, a11, a12, a13, a14⟩ := TJ.new (L := L) (xs := xs) (k := 0) (x := 0) (y := 0) (x' := 0) (y' := 0) (i2 := i32 (-1)) (i3 := i32 (-1)) (j2 := i32 (-1)) (j3 := i32 (-1)) hT (by omega) (by omega) (fun h => by omega) (d + 1) (dm + 4) jv jv
  obtain ⟨s2, t2, T2, b1, b2, b3, b4, b5, b6, b7, b8, b9, b10, b11, b12, b13, b14⟩ := TJ.new (L := L) (xs := xs) (k := 3) (x := T.1.1) (y := 0) (x' := T.2.1.1) (y' := 0) (i2 := i32 (T.1.1 : Int)) (i3 := i32 (-1)) (j2 := i32 (T.2.1.1 : Int)) (j3 := i32 (-1)) a3 (by omega) (by omega) (fun _ => ⟨⟨rfl, rfl, a5, .inl a6, .inl a7⟩, fun h => absurd rfl h⟩) (d + 2) (dm + 5) jv jv
  refine ⟨T1.1.1, T1.2.1.1, s2, t2, T2, ?_, fun w => ?_, b3, a4.trans b4, b5, .inl b6, .inl b7, a9.trans b9, a10.trans b10, ((a11.weak (B' := fun _ => False) (fun x hx => absurd hx.1 (by decide)) (fun _ h => h)).trans a12 (fun t u h => by rw [a13] at h; exact h) b11 (fun z hz => .inr (.inl (hz.2.elim id (fun h => absurd rfl h.1))))).weak (fun _ h => h) (fun _ h => .inr h), T.1.1, b14 (by decide)⟩
  · rw [own0_c (κ := 1) hp (by omega) h1 (d + 4), show t147 1 = 104 from rfl, e147_104 (d + 4), bI_ok (unk_c (d + 1) a1), i32_raw]
    have b1' : rn L xs (d + 4) 79 0 [.ref 50, .int 3, .int (i32 (T.1.1 : Int)), .int (i32 (-1)), jv] [] s1 = some (.inl (some (.int (i32 T1.1.1))), s2) := b1
    rw [bI_ok b1']
  · rw [own0_m (κ := 2) (by omega) (by omega) h2 (dm + 6), show t334 2 = 70 from rfl, e334_70 (dm + 6), bI_ok (unk_m (dm + 4) a2), i32_raw]
    have b2' : rn L xs (dm + 6) 331 0 [.ref 123, .int 3, .int (i32 (T.2.1.1 : Int)), .int (i32 (-1)), jv] [] t1 = some (.inl (some (.int (i32 T1.2.1.1))), t2) := b2
    rw [bI_ok b2']
/-- what its second part is of -/
theorem own_second {κ b x y : Nat} (hT : TJ K1 K2 Bc Bm f Rc Rm pd n u a rc T σ τ) (hp : p < 4101) (hκ : κ = 16 ∨ κ = 18 ∨ κ = 19 ∨ κ = 20) (h1 : rd σ 16 p = i32 (κ : Int)) (h2 : rd τ 151 p = i32 (mKd κ : Int)) (hb : b < 4101) (h3 : rd σ 21 p = i32 (b : Int)) (h4 : rd τ 155 p = i32 (b : Int)) (h5 : rd σ 66 b = i32 (x : Int)) (h6 : rd τ 178 b = i32 (y : Int)) (hz : T.2.2 x y) (c1 : cuN Bc x) (c2 : cuN Bm y) (d dm : Nat) : OWN L xs K1 K2 Bc Bm f Rc Rm pd pd n u a rc rc T p d dm σ τ (fun tc T' _ t => frM gro9 [63] τ t ∧ T' = T ∧ tc = x) := by
  have e1 : t147 κ = 241 ∧ mKd κ < 14 ∧ (t334 (mKd κ) = 219 ∨ t334 (mKd κ) = 254) := by
    rcases hκ with h | h | h | h <;> subst h <;> decide
  refine ⟨x, y, σ, τ, T, ?_, fun w => ?_, hT, exT.refl, hz, c1, c2, frT.refl, frM.refl, rfl, rfl⟩
  · rw [own0_c hp (by omega) h1 (d + 4), e1.1, e147_241, c_in (by omega) (by omega) (by omega), i32_ixn (by omega), h3, c_in (by omega) (by omega) (by omega), i32_ixn (by omega), h5]
  · rw [own0_m (by omega) e1.2.1 h2 (dm + 6)]
    rcases e1.2.2 with e | e
    · rw [e, e334_219, c_in (by omega) (by omega) (by omega), i32_ixn (by omega), h4, c_in (by omega) (by omega) (by omega), i32_ixn (by omega), h6]
    · rw [e, e334_254, c_in (by omega) (by omega) (by omega), i32_ixn (by omega), h4, c_in (by omega) (by omega) (by omega), i32_ixn (by omega), h6]
/-- a pair -/
theorem own_pair {q b x y x' y' : Nat} (hT : TJ K1 K2 Bc Bm f Rc Rm pd (n + 1) u a rc T σ τ) (hp : p < 4101) (h1 : rd σ 16 p = i32 4) (h2 : rd τ 151 p = i32 5) (hq : q < 4101) (hb : b < 4101) (h3 : rd σ 20 p = i32 (q : Int)) (h4 : rd σ 21 p = i32 (b : Int)) (h3' : rd τ 154 p = i32 (q : Int)) (h4' : rd τ 155 p = i32 (b : Int)) (h5 : rd σ 66 q = i32 (x : Int)) (h5' : rd τ 178 q = i32 (x' : Int)) (h6 : rd σ 66 b = i32 (y : Int)) (h6' : rd τ 178 b = i32 (y' : Int)) (z1 : T.2.2 x x') (z2 : T.2.2 y y') (c1 : cuN Bc x) (c1' : cuN Bm x') (c2 : cuN Bc y) (c2' : cuN Bm y') (d dm : Nat) : OWN L xs K1 K2 Bc Bm f Rc Rm pd pd n u a rc rc T p d dm σ τ (fun tc T' _ t => frM gro9 [63] τ t ∧ LOC T T' (fun b => b = x ∨ b = y) (fun b => b = tc) ∧ bxT T' tc 2 x y) := by
  obtain ⟨s1, t1, T1, a1, a2, a3, a4, a5, a6, a7, a8, a9, a10, a11, a12, a13, a14⟩ := TJ.new (L := L) (xs := xs) (k := 2) (x := x) (y := y) (x' := x') (y' := y') (i2 := i32 (x : Int)) (i3 := i32 (y : Int)) (j2 := i32 (x' : Int)) (j3 := i32 (y' : Int)) hT (by omega) (by omega) (fun _ => ⟨⟨rfl, rfl, z1, c1, c1'⟩, fun _ => ⟨rfl, rfl, z2, c2, c2'⟩⟩) (d + 2) (dm + 5) jv jv
  refine ⟨T.1.1, T.2.1.1, s1, t1, T1, ?_, fun w => ?_, a3, a4, a5, .inl a6, .inl a7, a9, a10, a11.weak (fun z hz => hz.2.elim .inl (fun h => .inr h.2)) (fun _ h => h), a14 (by decide)⟩
  · rw [own0_c (κ := 4) hp (by omega) h1 (d + 4), show t147 4 = 160 from rfl, e147_160 (d + 4), c_in (by omega) (by omega) (by omega), i32_ixn (by omega), h3, c_in (by omega) (by omega) (by omega), c_in (by omega) (by omega) (by omega), h4, c_in (by omega) (by omega) (by omega), i32_ixn (by omega), i32_ixn (by omega), h5, h6]
    have a1' : rn L xs (d + 4) 79 0 [.ref 50, .int 2, .int (i32 (x : Int)), .int (i32 (y : Int)), jv] [] σ = some (.inl (some (.int (i32 T.1.1))), s1) := a1
    rw [bI_ok a1']
  · rw [own0_m (κ := 5) (by omega) (by omega) h2 (dm + 6), show t334 5 = 120 from rfl, e334_120 (dm + 6), c_in (by omega) (by omega) (by omega), i32_ixn (by omega), h3', c_in (by omega) (by omega) (by omega), c_in (by omega) (by omega) (by omega), h4', c_in (by omega) (by omega) (by omega), i32_ixn (by omega), i32_ixn (by omega), h5', h6']
    have a2' : rn L xs (dm + 6) 331 0 [.ref 123, .int 2, .int (i32 (x' : Int)), .int (i32 (y' : Int)), jv] [] τ = some (.inl (some (.int (i32 T.2.1.1))), t1) := a2
    rw [bI_ok a2']
/-- a fn -/
theorem own_fn {q g v x y x' y' : Nat} (hT : TJ K1 K2 Bc Bm f Rc Rm pd (n + 1) u a rc T σ τ) (hp : p < 4101) (h1 : rd σ 16 p = i32 17) (h2 : rd τ 151 p = i32 10) (hq : q < 4101) (hg : g < 4101) (hv : v < 3002) (h3 : rd σ 20 p = i32 (q : Int)) (h3' : rd τ 154 p = i32 (q : Int)) (h4 : rd σ 27 p = i32 (g : Int)) (h4' : rd σ 36 g = i32 (v : Int)) (h4'' : rd τ 157 p = i32 (v : Int)) (h5 : rd σ 67 v = i32 (x : Int)) (h5' : rd τ 179 v = i32 (x' : Int)) (h6 : rd σ 66 q = i32 (y : Int)) (h6' : rd τ 178 q = i32 (y' : Int)) (z1 : T.2.2 x x') (z2 : T.2.2 y y') (c1 : cuN Bc x) (c1' : cuN Bm x') (c2 : cuN Bc y) (c2' : cuN Bm y') (d dm : Nat) : OWN L xs K1 K2 Bc Bm f Rc Rm pd pd n u a rc rc T p d dm σ τ (fun tc T' _ t => frM gro9 [63] τ t ∧ LOC T T' (fun b => b = x ∨ b = y) (fun b => b = tc) ∧ bxT T' tc 4 x y) := by
  obtain ⟨s1, t1, T1, a1, a2, a3, a4, a5, a6, a7, a8, a9, a10, a11, a12, a13, a14⟩ := TJ.new (L := L) (xs := xs) (k := 4) (x := x) (y := y) (x' := x') (y' := y') (i2 := i32 (x : Int)) (i3 := i32 (y : Int)) (j2 := i32 (x' : Int)) (j3 := i32 (y' : Int)) hT (by omega) (by omega) (fun _ => ⟨⟨rfl, rfl, z1, c1, c1'⟩, fun _ => ⟨rfl, rfl, z2, c2, c2'⟩⟩) (d + 2) (dm + 5) jv jv
  refine ⟨T.1.1, T.2.1.1, s1, t1, T1, ?_, fun w => ?_, a3, a4, a5, .inl a6, .inl a7, a9, a10, a11.weak (fun z hz => hz.2.elim .inl (fun h => .inr h.2)) (fun _ h => h), a14 (by decide)⟩
  · rw [own0_c (κ := 17) hp (by omega) h1 (d + 4), show t147 17 = 256 from rfl, e147_256 (d + 4), c_in (by omega) (by omega) (by omega), i32_ixn (by omega), h4, c_in (by omega) (by omega) (by omega), i32_ixn (by omega), h4', c_in (by omega) (by omega) (by omega), c_in (by omega) (by omega) (by omega), h3, c_in (by omega) (by omega) (by omega), i32_ixn (by omega), i32_ixn (by omega), h5, h6]
    have a1' : rn L xs (d + 4) 79 0 [.ref 50, .int 4, .int (i32 (x : Int)), .int (i32 (y : Int)), jv] [] σ = some (.inl (some (.int (i32 T.1.1))), s1) := a1
    rw [bI_ok a1']
  · rw [own0_m (κ := 10) (by omega) (by omega) h2 (dm + 6), show t334 10 = 231 from rfl, h4'', e334_231 (dm + 6), c_in (by omega) (by omega) (by omega), c_in (by omega) (by omega) (by omega), i32_ixn (by omega), i32_ixn (by omega), h3', c_in (by omega) (by omega) (by omega), i32_ixn (by omega), h5', h6']
    have a2' : rn L xs (dm + 6) 331 0 [.ref 123, .int 4, .int (i32 (x' : Int)), .int (i32 (y' : Int)), jv] [] τ = some (.inl (some (.int (i32 T.2.1.1))), t1) := a2
    rw [bI_ok a2']
end OWN
