/-! BETWEEN FUNCTIONS: rows that stay, room for what is to come, the state between two functions -/
/-- a row stays as far as it is filled; what counts it does not fall -/
def MN (o i A : Nat) (σ σ' : tvS) : Prop := (rd σ o i).toInt ≤ (rd σ' o i).toInt ∧ ∀ k : Nat, (k : Int) < (rd σ o i).toInt → rd σ' A k = rd σ A k
/-- all that is found of the functions ahead of f stays -/
def PRc (D : pgD) (f : Nat) (σ σ' : tvS) : Prop :=
  (∀ p, p < D.bP f → rd σ' 66 p = rd σ 66 p ∧ rd σ' 69 p = rd σ 69 p) ∧ (∀ v, v < D.tV f → rd σ' 67 v = rd σ 67 v) ∧ (∀ g, g < f → rd σ' 68 g = rd σ 68 g ∧ rd σ' 71 g = rd σ 71 g ∧ rd σ' 72 g = rd σ 72 g ∧ rd σ' 79 g = rd σ 79 g ∧ rd σ' 80 g = rd σ 80 g) ∧ (∀ j, j < D.bF f → rd σ' 83 j = rd σ 83 j ∧ rd σ' 84 j = rd σ 84 j) ∧ MN 65 9 70 σ σ' ∧ MN 65 13 73 σ σ' ∧ MN 74 14 81 σ σ' ∧ MN 74 14 82 σ σ' ∧ MN 74 18 85 σ σ'
def PRm (D : pgD) (f : Nat) (τ τ' : tvS) : Prop :=
  (∀ p, p < D.bP f → rd τ' 178 p = rd τ 178 p ∧ rd τ' 181 p = rd τ 181 p ∧ rd τ' 196 p = rd τ 196 p ∧ rd τ' 197 p = rd τ 197 p ∧ rd τ' 199 p = rd τ 199 p ∧ rd τ' 200 p = rd τ 200 p) ∧ (∀ v, v < D.tV f → rd τ' 179 v = rd τ 179 v) ∧ (∀ g, g < f → rd τ' 180 g = rd τ 180 g ∧ rd τ' 190 g = rd τ 190 g ∧ rd τ' 191 g = rd τ 191 g ∧ rd τ' 195 g = rd τ 195 g ∧ ∀ i, i < 64 → rd τ' 192 (64 * g + i) = rd τ 192 (64 * g + i) ∧ rd τ' 193 (64 * g + i) = rd τ 193 (64 * g + i) ∧ rd τ' 194 (64 * g + i) = rd τ 194 (64 * g + i)) ∧ MN 123 82 182 τ τ' ∧ MN 123 103 198 τ τ' ∧ MN 123 107 201 τ τ' ∧ MN 123 63 184 τ τ'
section BETW
variable {σ σ' τ τ' : tvS} {D : pgD} {m f : Nat}
theorem MN.refl {o i A : Nat} : MN o i A σ σ := ⟨Int.le_refl _, fun _ _ => rfl⟩
theorem MN.trans {o i A : Nat} {a b e : tvS} (h : MN o i A a b) (g : MN o i A b e) : MN o i A a e := ⟨Int.le_trans h.1 g.1, fun k hk => (g.2 k (Int.lt_of_lt_of_le hk h.1)).trans (h.2 k hk)⟩
theorem MN.same {o i A : Nat} (h : rd σ' o i = rd σ o i) (g : ∀ k, rd σ' A k = rd σ A k) : MN o i A σ σ' := ⟨by rw [h]; exact Int.le_refl _, fun k _ => g k⟩
theorem MN.nat {o i A x y : Nat} (h : rd σ o i = i32 (x : Int)) (h' : rd σ' o i = i32 (y : Int)) (hx : x ≤ y) (hy : y < 2147483648) (g : ∀ k, k < x → rd σ' A k = rd σ A k) : MN o i A σ σ' := by
  refine ⟨by rw [h, h', i32_ti (by omega) (by omega), i32_ti (by omega) (by omega)]; omega, fun k hk => ?_⟩
  rw [h, i32_ti (by omega) (by omega)] at hk
  exact g k (by omega)
theorem PRc.trans {a b e : tvS} (h : PRc D f a b) (g : PRc D f b e) : PRc D f a e := by
  obtain ⟨h1, h2, h3, h4, h5, h6, h7, h8, h9⟩ := h
  obtain ⟨g1, g2, g3, g4, g5, g6, g7, g8, g9⟩ := g
  exact ⟨fun p hp => ⟨(g1 p hp).1.trans (h1 p hp).1, (g1 p hp).2.trans (h1 p hp).2⟩, fun v hv => (g2 v hv).trans (h2 v hv), fun x hx => ⟨(g3 x hx).1.trans (h3 x hx).1, (g3 x hx).2.1.trans (h3 x hx).2.1, (g3 x hx).2.2.1.trans (h3 x hx).2.2.1, (g3 x hx).2.2.2.1.trans (h3 x hx).2.2.2.1, (g3 x hx).2.2.2.2.trans (h3 x hx).2.2.2.2⟩, fun x hx => ⟨(g4 x hx).1.trans (h4 x hx).1, (g4 x hx).2.trans (h4 x hx).2⟩, h5.trans g5, h6.trans g6, h7.trans g7, h8.trans g8, h9.trans g9⟩
theorem PRm.trans {a b e : tvS} (h : PRm D f a b) (g : PRm D f b e) : PRm D f a e := by
  obtain ⟨h1, h2, h3, h4, h5, h6, h7⟩ := h
  obtain ⟨g1, g2, g3, g4, g5, g6, g7⟩ := g
  refine ⟨fun p hp => ?_, fun v hv => (g2 v hv).trans (h2 v hv), fun x hx => ?_, h4.trans g4, h5.trans g5, h6.trans g6, h7.trans g7⟩
  · obtain ⟨a1, a2, a3, a4, a5, a6⟩ := h1 p hp
    obtain ⟨b1, b2, b3, b4, b5, b6⟩ := g1 p hp
    exact ⟨b1.trans a1, b2.trans a2, b3.trans a3, b4.trans a4, b5.trans a5, b6.trans a6⟩
  · obtain ⟨a1, a2, a3, a4, a5⟩ := h3 x hx
    obtain ⟨b1, b2, b3, b4, b5⟩ := g3 x hx
    exact ⟨b1.trans a1, b2.trans a2, b3.trans a3, b4.trans a4, fun i hi => ⟨(b5 i hi).1.trans (a5 i hi).1, (b5 i hi).2.1.trans (a5 i hi).2.1, (b5 i hi).2.2.trans (a5 i hi).2.2⟩⟩
theorem PRc.refl : PRc D f σ σ := ⟨fun _ _ => ⟨rfl, rfl⟩, fun _ _ => rfl, fun _ _ => ⟨rfl, rfl, rfl, rfl, rfl⟩, fun _ _ => ⟨rfl, rfl⟩, MN.refl, MN.refl, MN.refl, MN.refl, MN.refl⟩
theorem PRm.refl : PRm D f τ τ := ⟨fun _ _ => ⟨rfl, rfl, rfl, rfl, rfl, rfl⟩, fun _ _ => rfl, fun _ _ => ⟨rfl, rfl, rfl, rfl, fun _ _ => ⟨rfl, rfl, rfl⟩⟩, MN.refl, MN.refl, MN.refl, MN.refl⟩
/-- tables rise with the functions -/
theorem PGF.up (hF : PGF D m) : ∀ (j f : Nat), f + j ≤ D.fc + 1 → D.bP f ≤ D.bP (f + j) ∧ D.tV f ≤ D.tV (f + j) ∧ D.bF f ≤ D.bF (f + j) ∧ toc D f ≤ toc D (f + j) := by
  intro j
  induction j with
  | zero => intro f _; exact ⟨Nat.le_refl _, Nat.le_refl _, Nat.le_refl _, Nat.le_refl _⟩
  | succ j ih =>
    intro f h
    obtain ⟨a1, a2, a3, a4⟩ := ih f (by omega)
    have hp := (hF.2.2 (f + j) (by omega)).1
    refine ⟨Nat.le_trans a1 (Nat.le_of_lt hp.1), Nat.le_trans a2 (by have := hp.2.1; show _ ≤ D.tV (f + j + 1); omega), Nat.le_trans a3 hp.2.2.1, Nat.le_trans a4 ?_⟩
    show toc D (f + j) ≤ toc D (f + j) + _
    omega
theorem PRc.le (hF : PGF D m) {g : Nat} (hg : g ≤ f) (hf : f ≤ D.fc + 1) (h : PRc D f σ σ') : PRc D g σ σ' := by
  have u := hF.up (f - g) g (by omega)
  rw [show g + (f - g) = f by omega] at u
  obtain ⟨h1, h2, h3, h4, h5⟩ := h
  exact ⟨fun p hp => h1 p (by omega), fun v hv => h2 v (by omega), fun x hx => h3 x (by omega), fun j hj => h4 j (by omega), h5⟩
theorem PRm.le (hF : PGF D m) {g : Nat} (hg : g ≤ f) (hf : f ≤ D.fc + 1) (h : PRm D f τ τ') : PRm D g τ τ' := by
  have u := hF.up (f - g) g (by omega)
  rw [show g + (f - g) = f by omega] at u
  obtain ⟨h1, h2, h3, h4⟩ := h
  exact ⟨fun p hp => h1 p (by omega), fun v hv => h2 v (by omega), fun x hx => h3 x (by omega), h4⟩
theorem exT.le {Bc Bm Bc' Bm' : Nat} {T T' : tyJ} (h : exT Bc Bm T T') (h1 : Bc' ≤ Bc) (h2 : Bm' ≤ Bm) : exT Bc' Bm' T T' := by
  obtain ⟨a1, a2, a3, a4, a5, a6, a7, a8⟩ := h
  exact ⟨a1, a2, a3, a4, fun x hx => a5 x (by omega), fun x hx => a6 x (by omega), fun x hx => a7 x (by omega), fun x hx => a8 x (by omega)⟩
/-- what may yet come -/
def nB (D : pgD) (f : Nat) : Nat := 5 * (D.bP (D.fc + 1) - D.bP f) + 64 * (toc D (D.fc + 1) - toc D f)
def uB (D : pgD) (f : Nat) : Nat := 2 * (D.tV (D.fc + 1) - D.tV f) + (D.bF (D.fc + 1) - D.bF f) + 2 * (D.fc + 1 - f)
def aB (D : pgD) (f : Nat) : Nat := (D.bP (D.fc + 1) - D.bP f) + 9 * (D.bF (D.fc + 1) - D.bF f) + 3 * (D.fc + 1 - f)
def rB (D : pgD) (f : Nat) : Nat := (toc D (D.fc + 1) - toc D f) + (D.bF (D.fc + 1) - D.bF f)
/-- the types of a signature: parameters, result, regions that are given -/
noncomputable def XCn (D : pgD) (f : Nat) (bl : List Nat) (ow : Nat → Int) (σ : tvS) (i : Nat) : Nat := if i < D.bk f then vT σ (D.tV f + i) else if i = D.bk f then rT σ f else nfT bl (nfil (fun k => ow k = -1) bl.length) (i - (D.bk f + 1))
noncomputable def XMn (D : pgD) (f : Nat) (R : List Nat) (ow : Nat → Int) (τ : tvS) (i : Nat) : Nat := if i < D.bk f then vM τ (D.tV f + i) else if i = D.bk f then rM τ f else nfT R (nfil (fun k => ow k = -1) R.length) (i - (D.bk f + 1))
def sgN (G : sgD) (f ng rf : Nat) (X Y : Nat → Nat) : sgD := (fun g => if g = f then ng else G.ng g, fun g => if g = f then rf else G.rf g, fun g => if g = f then X else G.XC g, fun g => if g = f then Y else G.XM g)
/-- where copies of calls lie -/
def CLN (D : pgD) (G : sgD) (f : Nat) (σ τ : tvS) : Prop := ∃ Nk Nm : Nat, rd σ 65 9 = i32 (Nk : Int) ∧ Nk ≤ 32768 ∧ rd τ 123 82 = i32 (Nm : Int) ∧ Nm ≤ 60000 ∧ ∀ q, D.bP f ≤ q → q < D.bP (f + 1) → D.K q = 3 → D.vl q < f → ∃ n0 n1 : Nat, rd σ 69 q = i32 (n0 : Int) ∧ n0 + D.cn G q ≤ Nk ∧ rd τ 181 q = i32 (n1 : Int) ∧ n1 + D.cn G q ≤ Nm
/-- what was found of a function g: at its time, and what of it is still so -/
def FNG (D : pgD) (K1 K2 g : Nat) (G : sgD) (T0f T2f : Nat → tyJ) (T : tyJ) (σ τ : tvS) : Prop :=
  ∃ (Gg : sgD) (T1 T' : tyJ) (n0 fst kc0 rf cf0 kf0 Bm : Nat) (pe0 : Nat → Nat) (bl R : List Nat) (ow : Nat → Int) (pe pt by' : Nat → Nat) (kc cf kg : Nat) (kf gf gk : Nat → Nat) (σa τ1 σ' τ' σ2 τ2 : tvS),
    (∀ g', g' < g → Gg.ng g' = G.ng g' ∧ Gg.rf g' = G.rf g' ∧ Gg.XC g' = G.XC g' ∧ Gg.XM g' = G.XM g') ∧ (G.ng g = (nfil (fun k => ow k = -1) bl.length).length ∧ G.rf g = rf ∧ G.XC g = XCn D g bl ow σa ∧ G.XM g = XMn D g R ow τ1) ∧
    GHO D Gg g (D.bP (g + 1)) (D.bP (g + 1)) (T0f g) T1 σa ∧ (TYc D g T1.1.1 σa ∧ TYm D g T1.2.1.1 τ1 ∧ CLc D Gg g T1.1.1 σa ∧ CLm D Gg g T1.2.1.1 τ1 ∧ MTf D Gg g T1.2.2 σa τ1) ∧ (∀ v, D.tV g ≤ v → v < D.tV (g + 1) → rd σa 67 v = i32 (vT σa v : Int) ∧ vT σa v < T1.1.1 ∧ T1.2.2 (vT σa v) (vM τ1 v)) ∧ CLN D Gg g σa τ1 ∧ (cf ≤ 30000 ∧ kg ≤ 40000) ∧
    REC D Gg K1 K2 g n0 fst kc0 rf cf0 kf0 pe0 Bm T1 T' (T2f g) bl R ow pe pt by' kc cf kg kf gf gk σa τ1 σ' τ' σ2 τ2 ∧ PRc D (g + 1) σ2 σ ∧ PRm D (g + 1) τ2 τ ∧ exT (T2f g).1.1 (T2f g).2.1.1 (T2f g) T ∧ ∀ g', g' < g → exT (T2f g').1.1 (T2f g').2.1.1 (T2f g') (T0f g)
/-- the state between two functions -/
def TYB (D : pgD) (m K1 K2 : Nat) (cp : Nat → List (Nat × Nat)) (bS vs us sc : Nat → Nat) (cl : Nat → List Nat) (f : Nat) (G : sgD) (Rc Rm : Nat → Nat → Prop) (T0f T2f : Nat → tyJ) (T : tyJ) (σ τ : tvS) : Prop :=
  TJ K1 K2 T.1.1 T.2.1.1 f Rc Rm [] (nB D f) (uB D f) (aB D f) (rB D f) T σ τ ∧ PGR D σ τ ∧ OLF D G f T.1.1 T.2.1.1 Rc Rm T σ τ ∧ OLB D G f T ∧ (∃ (Nk : Nat) (ce : Nat → Nat), KP Nk ce σ ∧ Nk + 30 * rB D f ≤ 32768) ∧ (∃ (Nm : Nat) (cm : Nat → Nat), KM Nm cm τ ∧ Nm + 30 * rB D f ≤ 60000) ∧ T.1.2.2.2.2.1 + 100 * rB D f < 212000 ∧
  (RGC D m cp σ ∧ RGM D bS vs us sc cl σ τ ∧ RGV D m σ τ) ∧ (rd τ 123 5 = 0 ∧ ∀ l, l < m → rd σ 13 l = rd τ 127 l ∧ rd σ 13 l ≠ i32 (-1)) ∧ (∃ (n0 : Nat) (pe0 : Nat → Nat), QP n0 pe0 σ ∧ (∀ i, i < n0 → pe0 i < T.1.1) ∧ n0 ≤ D.bP f + 24 * toc D f) ∧ (∃ fst : Nat, BXS fst σ ∧ fst ≤ 60 * f) ∧ (∀ t, T.2.1.1 ≤ t → rd τ 184 t = 0) ∧
  (∃ kc0 : Nat, rd σ 74 18 = i32 (kc0 : Int) ∧ kc0 ≤ ln σ 85 ∧ kc0 ≤ 60 * D.bF f) ∧ (∃ rf : Nat, rd σ 65 13 = i32 (rf : Int) ∧ rf ≤ ln σ 73 ∧ rf ≤ 24 * f ∧ ∀ g, g < f → G.rf g + G.ng g ≤ rf) ∧ (∃ cf0 : Nat, rd τ 123 103 = i32 (cf0 : Int) ∧ cf0 ≤ 40 * D.bF f) ∧ (∃ kf0 : Nat, rd τ 123 107 = i32 (kf0 : Int) ∧ kf0 ≤ 60 * D.bF f) ∧ ∀ g, g < f → FNG D K1 K2 g G T0f T2f T σ τ
end BETW
