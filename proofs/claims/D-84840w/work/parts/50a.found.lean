/-! WHAT WAS FOUND, plainly: regions of all functions -/
/-- numbers of regions, their owners (-1: the function is given it), the number of a put, what fns keep -/
abbrev rgD : Type := (Nat → Nat) × (Nat → Nat → Int) × (Nat → Nat → Nat) × (Nat → List Nat)
def rgD.nK (r : rgD) : Nat → Nat := r.1
def rgD.ow (r : rgD) : Nat → Nat → Int := r.2.1
def rgD.nu (r : rgD) : Nat → Nat → Nat := r.2.2.1
def rgD.kp (r : rgD) : Nat → List Nat := r.2.2.2
/-- numbers that a function is given, in order -/
noncomputable def rgD.gl (r : rgD) (f : Nat) : List Nat := nfil (fun k => r.ow f k = -1) (r.nK f)
/-- the component's, of a function -/
def CGf (D : pgD) (G : sgD) (rg : rgD) (N : Nat) (c : Nat → Nat) (σ : tvS) (f : Nat) : Prop :=
  ∃ (fst : Nat) (bl : List Nat), (bl.length = rg.nK f ∧ rg.nK f ≤ 60 ∧ BOX f fst bl.length (fun i => bl.getD i 0) σ ∧ ln σ 82 = ln σ 81 ∧ (∀ x, x ∈ bl → x < N) ∧ (bl.map c).Nodup ∧ ∀ k, k < rg.nK f → rd σ 82 (fst + k) = i32 (rg.ow f k) ∧ -1 ≤ rg.ow f k ∧ rg.ow f k < 4101) ∧
    (∀ q i, D.bP f ≤ q → q < D.bP (f + 1) → i < D.np G f q → 1 ≤ rg.nu q i ∧ rg.nu q i ≤ rg.nK f ∧ c (bl.getD (rg.nu q i - 1) 0) = c (pnC D σ q i) ∧ pnC D σ q i < N) ∧
    (G.ng f = (rg.gl f).length ∧ rd σ 72 f = i32 (G.ng f : Int) ∧ rd σ 71 f = i32 (G.rf f : Int) ∧ G.rf f + G.ng f ≤ ln σ 73 ∧ ln σ 73 ≤ 2048 ∧ G.ng f ≤ 24 ∧ ∀ i, i < G.ng f → rd σ 73 (G.rf f + i) = i32 (bl.getD ((rg.gl f).getD i 0 - 1) 0 : Nat)) ∧
    (∀ p, D.bP f ≤ p → p < D.bP (f + 1) → rd σ 66 p = i32 (oT σ p : Int)) ∧ CLc D G f N σ ∧
    ∀ j, D.bF f ≤ j → j < D.bF (f + 1) → rd σ 84 j = i32 ((rg.kp j).length : Int) ∧ (rg.kp j).length ≤ 60 ∧ (∀ x, x ∈ rg.kp j → 1 ≤ x ∧ x ≤ rg.nK f) ∧ ∃ kf : Nat, rd σ 83 j = i32 (kf : Int) ∧ kf + (rg.kp j).length ≤ ln σ 85 ∧ kf + (rg.kp j).length < 65536 ∧ ∀ i, i < (rg.kp j).length → rd σ 85 (kf + i) = i32 ((rg.kp j).getD i 0 : Nat)
/-- the model's, of a function -/
def CGm (D : pgD) (G : sgD) (rg : rgD) (N : Nat) (r : Nat → Nat) (τ : tvS) (f : Nat) : Prop :=
  (rd τ 190 f = i32 (rg.nK f : Int) ∧ rd τ 191 f = i32 ((rg.gl f).length : Int) ∧ (∀ i, i < (rg.gl f).length → rd τ 192 (64 * f + i) = i32 ((rg.gl f).getD i 0 : Nat)) ∧ ∀ k, k < rg.nK f → rd τ 194 (64 * f + k + 1) = i32 (rg.ow f k)) ∧
  (∀ q i, D.bP f ≤ q → q < D.bP (f + 1) → i < D.np G f q → rd τ 184 (r (pnM D τ q i)) = i32 (rg.nu q i : Int) ∧ pnM D τ q i < N) ∧ (∀ p, D.bP f ≤ p → p < D.bP (f + 1) → rd τ 178 p = i32 (oM τ p : Int)) ∧ CLm D G f N τ ∧
  ∃ (pt by' : Nat → Nat), FNP D f pt by' ∧ ∀ j, D.bF f ≤ j → j < D.bF (f + 1) → ∃ cf kf : Nat, cf + (cgF D (pt j) (D.st (by' j)) (by' j + 1 - D.st (by' j))).length ≤ 30000 ∧ kf + (rg.kp j).length ≤ 40000 ∧ KPF (pt j) cf kf (cgF D (pt j) (D.st (by' j)) (by' j + 1 - D.st (by' j))) (rg.kp j) τ
/-- the same of a function, with the numbers that are told of it -/
def FNGr (rg : rgD) (D : pgD) (K1 K2 g : Nat) (G : sgD) (T0f T2f : Nat → tyJ) (T : tyJ) (σ τ : tvS) : Prop :=
  ∃ (Gg : sgD) (T1 T' : tyJ) (n0 fst kc0 rf cf0 kf0 Bm : Nat) (pe0 : Nat → Nat) (bl R : List Nat) (ow : Nat → Int) (pe pt by' : Nat → Nat) (kc cf kg : Nat) (kf gf gk : Nat → Nat) (σa τ1 σ' τ' σ2 τ2 : tvS),
    (∀ g', g' < g → Gg.ng g' = G.ng g' ∧ Gg.rf g' = G.rf g' ∧ Gg.XC g' = G.XC g' ∧ Gg.XM g' = G.XM g') ∧ (G.ng g = (nfil (fun k => ow k = -1) bl.length).length ∧ G.rf g = rf ∧ G.XC g = XCn D g bl ow σa ∧ G.XM g = XMn D g R ow τ1) ∧
    GHO D Gg g (D.bP (g + 1)) (D.bP (g + 1)) (T0f g) T1 σa ∧ (TYc D g T1.1.1 σa ∧ TYm D g T1.2.1.1 τ1 ∧ CLc D Gg g T1.1.1 σa ∧ CLm D Gg g T1.2.1.1 τ1 ∧ MTf D Gg g T1.2.2 σa τ1) ∧ (∀ v, D.tV g ≤ v → v < D.tV (g + 1) → rd σa 67 v = i32 (vT σa v : Int) ∧ vT σa v < T1.1.1 ∧ T1.2.2 (vT σa v) (vM τ1 v)) ∧ CLN D Gg g σa τ1 ∧ (cf ≤ 30000 ∧ kg ≤ 40000) ∧
    REC D Gg K1 K2 g n0 fst kc0 rf cf0 kf0 pe0 Bm T1 T' (T2f g) bl R ow pe pt by' kc cf kg kf gf gk σa τ1 σ' τ' σ2 τ2 ∧ PRc D (g + 1) σ2 σ ∧ PRm D (g + 1) τ2 τ ∧ exT (T2f g).1.1 (T2f g).2.1.1 (T2f g) T ∧ (∀ g', g' < g → exT (T2f g').1.1 (T2f g').2.1.1 (T2f g') (T0f g)) ∧
    rg.nK g = bl.length ∧ (∀ k, rg.ow g k = ow k) ∧ (∀ q i, D.bP g ≤ q → q < D.bP (g + 1) → rg.nu q i = R.idxOf (T1.2.1.2.2.1 (pnM D τ1 q i)) + 1) ∧ (∀ j, D.bF g ≤ j → j < D.bF (g + 1) → rg.kp j = nfil (mkM D Gg g T1.2.1.2.2.1 R ow τ' (by' j)) R.length) ∧
    (∀ q i, D.bP g ≤ q → q < D.bP (g + 1) → D.K q = 3 → D.vl q < g → i < D.cn G q → cT σ q i = cT σa q i) ∧ BOX g fst bl.length (fun i => bl.getD i 0) σ
section FNGCG
variable {σ τ : tvS} {K1 K2 g : Nat} {T : tyJ} {T0f T2f : Nat → tyJ} {D : pgD} {G : sgD} {m : Nat} {n0 fst kc0 rf cf0 kf0 Bm : Nat}
theorem np_congr {Gg : sgD} (h : ∀ g', g' < g → Gg.ng g' = G.ng g') (q : Nat) : D.np Gg g q = D.np G g q := by
  unfold pgD.np
  by_cases c : D.K q = 4 ∨ D.K q = 16 ∨ D.K q = 17
  · rw [if_pos c, if_pos c]
  · rw [if_neg c, if_neg c]
    by_cases c2 : D.K q = 3 ∧ D.vl q < g
    · rw [if_pos c2, if_pos c2, h _ c2.2]
    · rw [if_neg c2, if_neg c2]
theorem mn_lt {o i A x y : Nat} {a b : tvS} (h : MN o i A a b) (h1 : rd a o i = i32 (x : Int)) (h2 : rd b o i = i32 (y : Int)) (hx : x < 2147483648) (hy : y < 2147483648) : x ≤ y ∧ ∀ k, k < x → rd b A k = rd a A k := by
  obtain ⟨m1, m2⟩ := h
  rw [h1, h2, i32_ti (by omega) (by omega), i32_ti (by omega) (by omega)] at m1
  refine ⟨by omega, fun k hk => m2 k ?_⟩
  rw [h1, i32_ti (by omega) (by omega)]; omega
theorem TYB.cg {cp : Nat → List (Nat × Nat)} {bS vs us sc : Nat → Nat} {cl : Nat → List Nat} {Rc Rm : Nat → Nat → Prop} (hF : PGF D m) (hg : g ≤ D.fc) (hB : TYB D m K1 K2 cp bS vs us sc cl (D.fc + 1) G Rc Rm T0f T2f T σ τ) (hbF : D.bF (D.fc + 1) ≤ 200) : ∃ rg : rgD, CGf D G rg T.1.1 (yC T) σ g ∧ CGm D G rg T.2.1.1 T.2.1.2.2.1 τ g ∧ FNGr rg D K1 K2 g G T0f T2f T σ τ := by
  have hb4 := hF.1
  have hPf := hF.2.2 g hg
  obtain ⟨b1, b2, b3, b4, ⟨NkE, ceE, b5, b5'⟩, ⟨NmE, cmE, b6, b6'⟩, b7, _, _, _, ⟨fsE, b14, b14'⟩, _, ⟨kcE, b16, b16', b16''⟩, ⟨rfE, b17, b17', b17'', b17r⟩, ⟨cfE, b18, b18'⟩, ⟨kfE, b19, b19'⟩, b20⟩ := hB
  obtain ⟨Gg, T1, T', n0, fst, kc0, rf, cf0, kf0, Bm, pe0, bl, R, ow, pe, pt, by', kc, cf, kg, kf, gf, gk, σa, τ1, σ', τ', σ2, τ2, a1, a2, a3, ⟨t1, t2, t3, t4, t5⟩, a5, ⟨Nk, Nm, n1, n2, n3, n4, n5⟩, ⟨hcfB, hkgB⟩, a6, a7, a8, a9, a10⟩ := b20 g (by omega)
  obtain ⟨hO, ⟨hpt, _⟩, hJ0, ⟨e1, e2, e3, e4⟩, ⟨m1, m2, m3, m4⟩, e5, hEc, ⟨nb, hEm⟩, hS⟩ := id a6
  obtain ⟨_, _, _, _, _, _, ⟨l60, llen, hNM, hBXL, hNU, h184⟩, _, _, how, h76, frc, _, f74, _, _, _, ⟨ebl, eR, _⟩, frx⟩ := hO
  obtain ⟨c1, c2, ⟨c3, c4, c5, c6⟩, c7, c8, c9, ⟨c71, c72, co, cRG⟩, c74, c65, ftl, _⟩ := hEc
  obtain ⟨kN, k190, k195, ko195, koth, ⟨q1, q2, q3, q4, q5, q6⟩, k198, k201, kq, kKPF, ftm⟩ := hEm
  obtain ⟨p1, p2, p3, p4, p5, p6, p7, p8, p9⟩ := id a7
  obtain ⟨w1, w2, w3, w4, w5, w6, w7⟩ := id a8
  have hRm : ROOM K1 K2 σ := by
    obtain ⟨_, _, _, _, _, _, h5, _⟩ := b1.1.1
    exact h5
  have l81 := hRm.le (k := 81) (M := 2048) (by decide)
  have l70 := hRm.le (k := 70) (M := 32768) (by decide)
  have l85 := hRm.le (k := 85) (M := 65536) (by decide)
  have ec : ∀ j, inL FRC j = false → inL FTL j = false → ∀ i, rd σ2 j i = rd σa j i := fun j h1 h2 i => by rw [ftl.1 j h2, frc.1 j h1]
  have em : ∀ j, inL (123 :: FRX) j = false → inL (123 :: FTM) j = false → ∀ i, rd τ2 j i = rd τ1 j i := fun j h1 h2 i => by rw [ftm.rd h2, frx.rd h1]
  have gM : ∀ x, T1.2.1.2.2.1 (T1.2.1.2.2.1 x) = T1.2.1.2.2.1 x := by
    have := hJ0.plm.1
    rw [m3] at this; exact this
  have hJz := hJ0.2.2
  rw [e5] at hJz
  have hN1c : T1.1.1 ≤ T.1.1 := by have := a9.2.2.1; rw [e1] at this; exact this
  have hN1m : T1.2.1.1 ≤ T.2.1.1 := by have := a9.2.2.2.1; rw [m1] at this; exact this
  have hNb : T.1.1 ≤ 122000 := by have := b1.2.2.2.2.1; omega
  have hNmb : T.2.1.1 ≤ 99000 := by have := b1.2.2.2.2.2.2.1; omega
  have hcl : ∀ x, x < T1.1.1 → yC T x = yC T1 x := fun x hx => by
    have := a9.2.2.2.2.1 x (by rw [e1]; exact hx)
    rw [show yC T x = T.1.2.2.1 x from rfl, this]
    show yC (T2f g) x = _
    rw [e3]
  have hrl : ∀ x, x < T1.2.1.1 → T.2.1.2.2.1 x = T1.2.1.2.2.1 x := fun x hx => by
    rw [a9.2.2.2.2.2.1 x (by rw [m1]; exact hx), m3]
  have hnp : ∀ q, D.np Gg g q = D.np G g q := np_congr (fun g' h => (a1 g' h).1)
  have hcn : ∀ q, D.vl q < g → D.cn Gg q = D.cn G q := fun q h => by unfold pgD.cn; rw [(a1 _ h).1]
  -- rows of calls
  have calR : ∀ q, D.bP g ≤ q → q < D.bP (g + 1) → D.K q = 3 → D.vl q < g → ∃ k0 k1 : Nat, rd σ 69 q = i32 (k0 : Int) ∧ k0 + D.cn G q ≤ NkE ∧ rd τ 181 q = i32 (k1 : Int) ∧ k1 + D.cn G q ≤ NmE ∧ (∀ i, i < D.cn G q → cT σ q i = cT σa q i ∧ rd σ 70 (k0 + i) = i32 (cT σa q i : Int) ∧ cT σa q i < T1.1.1) ∧ ∀ i, i < D.cn G q → cM τ q i = cM τ1 q i ∧ rd τ 182 (k1 + i) = i32 (cM τ1 q i : Int) ∧ cM τ1 q i < T1.2.1.1 := fun q h1 h2 h3 h4 => by
    obtain ⟨k0, k1, f1, f2, f3, f4⟩ := n5 q h1 h2 h3 h4
    rw [hcn q h4] at f2 f4
    have r69 : rd σ 69 q = i32 (k0 : Int) := by rw [(p1 q (by omega)).2, ec 69 rfl rfl]; exact f1
    have r181 : rd τ 181 q = i32 (k1 : Int) := by rw [(w1 q (by omega)).2.1, em 181 rfl rfl]; exact f3
    have x9 : rd σ2 65 9 = i32 (Nk : Int) := by rw [c65 9 (by decide), frc.1 65 rfl]; exact n1
    have hNkE := b5.2.1
    obtain ⟨y1, y2⟩ := mn_lt p5 x9 b5.1 (by omega) (by omega)
    have x82 : rd τ2 123 82 = i32 (Nm : Int) := by rw [ftm.2.1 82 rfl, frx.2.1 82 rfl]; exact n3
    have hNmE := b6.2.1
    obtain ⟨z1, z2⟩ := mn_lt w4 x82 b6.1 (by omega) (by omega)
    obtain ⟨j1, g1, g2, g3, _⟩ := t3.2 q h1 h2 h3 h4
    have ej : j1 = k0 := by
      have hl := t3.1
      rw [g1] at f1
      have := (i32_inj (by omega) (by omega) (by omega) (by omega)).mp f1
      omega
    subst ej
    obtain ⟨j2, v1, v2, v3, _⟩ := t4 q h1 h2 h3 h4
    have ej2 : j2 = k1 := by
      rw [v1] at f3
      have := (i32_inj (by omega) (by omega) (by omega) (by omega)).mp f3
      omega
    subst ej2
    rw [hcn q h4] at g3 v3
    refine ⟨j1, j2, r69, by omega, r181, by omega, fun i hi => ?_, fun i hi => ?_⟩
    · have r70 : rd σ 70 (j1 + i) = i32 (cT σa q i : Int) := by rw [y2 (j1 + i) (by omega), ec 70 rfl rfl]; exact (g3 i hi).1
      have hlt := (g3 i hi).2
      refine ⟨?_, r70, hlt⟩
      have : cT σ q i = ix (rd σ 70 (j1 + i)) := by unfold cT; rw [r69, i32_ixn (by omega)]
      rw [this, r70, i32_ixn (by omega)]
    · have r182 : rd τ 182 (j2 + i) = i32 (cM τ1 q i : Int) := by rw [z2 (j2 + i) (by omega), em 182 rfl rfl]; exact (v3 i hi).1
      have hlt := (v3 i hi).2
      refine ⟨?_, r182, hlt⟩
      have : cM τ q i = ix (rd τ 182 (j2 + i)) := by unfold cM; rw [r181, i32_ixn (by omega)]
      rw [this, r182, i32_ixn (by omega)]
  have eo : ∀ q, q < D.bP (g + 1) → rd σ 66 q = rd σa 66 q := fun q h => by rw [(p1 q h).1, ec 66 rfl rfl]
  have eom : ∀ q, q < D.bP (g + 1) → rd τ 178 q = rd τ1 178 q := fun q h => by rw [(w1 q h).1, em 178 rfl rfl]
  have epn : ∀ q i, D.bP g ≤ q → q < D.bP (g + 1) → i < D.np G g q → pnC D σ q i = pnC D σa q i ∧ pnM D τ q i = pnM D τ1 q i := fun q i h1 h2 hi => by
    unfold pnC pnM
    by_cases k : D.K q = 4 ∨ D.K q = 16 ∨ D.K q = 17
    · rw [if_pos k, if_pos k, if_pos k, if_pos k]
      unfold oT oM
      rw [eo q h2, eom q h2]; exact ⟨rfl, rfl⟩
    · rw [if_neg k, if_neg k, if_neg k, if_neg k]
      unfold pgD.np at hi
      rw [if_neg k] at hi
      by_cases k3 : D.K q = 3 ∧ D.vl q < g
      · rw [if_pos k3] at hi
        obtain ⟨_, _, _, _, _, _, f5, f6⟩ := calR q h1 h2 k3.1 k3.2
        have hc : D.cn G q = D.bk (D.vl q) + 1 + G.ng (D.vl q) := rfl
        exact ⟨(f5 _ (by omega)).1, (f6 _ (by omega)).1⟩
      · rw [if_neg k3] at hi; omega
  have hRm2 : ∀ q i, D.bP g ≤ q → q < D.bP (g + 1) → i < D.np G g q → T1.2.1.2.2.1 (pnM D τ1 q i) ∈ R := fun q i h1 h2 hi => by
    rw [eR]
    unfold nmK
    refine (nmL_mem _ _).mpr (.inr ⟨pnM D τ1 q i, List.mem_map.mpr ⟨(q, i), ?_, rfl⟩, rfl⟩)
    have hi' : i < D.np Gg g q := by rw [hnp]; exact hi
    have hh := puL_at (D := D) (Gs := Gg) (f := g) (q - D.bP g) i (by rw [show D.bP g + (q - D.bP g) = q by omega]; exact hi')
    rw [show D.bP g + (q - D.bP g) = q by omega] at hh
    have h2' := puL_pre (D.bP (g + 1) - (q + 1)) _ _ _ hh
    rw [show q - D.bP g + 1 + (D.bP (g + 1) - (q + 1)) = D.bP (g + 1) - D.bP g by omega] at h2'
    exact List.mem_of_getElem? h2'
  have hidx : ∀ q i, D.bP g ≤ q → q < D.bP (g + 1) → i < D.np G g q → R.idxOf (T1.2.1.2.2.1 (pnM D τ1 q i)) < R.length ∧ R[R.idxOf (T1.2.1.2.2.1 (pnM D τ1 q i))]? = some (T1.2.1.2.2.1 (pnM D τ1 q i)) := fun q i h1 h2 hi => by
    have hlt := List.idxOf_lt_length_of_mem (hRm2 q i h1 h2 hi)
    exact ⟨hlt, by rw [List.getElem?_eq_getElem hlt, List.getElem_idxOf hlt]⟩
  have hpz : ∀ q i, D.bP g ≤ q → q < D.bP (g + 1) → i < D.np G g q → T1.2.2 (pnC D σa q i) (pnM D τ1 q i) := fun q i h1 h2 hi => t5.2.2.2 q i h1 h2 (by rw [hnp]; exact hi)
  have hpl : ∀ q i, D.bP g ≤ q → q < D.bP (g + 1) → i < D.np G g q → pnC D σa q i < T1.1.1 ∧ pnM D τ1 q i < T1.2.1.1 := fun q i h1 h2 hi => by
    have := hJz.2.2.1 _ _ (hpz q i h1 h2 hi)
    rw [e1, m1] at this; exact this
  have hz1 : zG (yG T1) (yC T1) T1.2.1.2.1 T1.2.1.2.2.1 T1.2.2 := by
    have := hJz.1
    rw [show (T2f g).1.2.1 = yG T1 from e2, show (T2f g).1.2.2.1 = yC T1 from e3, m2, m3] at this
    exact this
  have hblN : ∀ x, x ∈ bl → x < T1.1.1 := fun x hx => by
    obtain ⟨k, k1, k2⟩ := List.mem_iff_getElem.mp hx
    have hk : bl[k]? = some x := by rw [List.getElem?_eq_getElem k1, k2]
    have hkR : k < R.length := by rw [← llen]; exact k1
    have := hJz.2.2.1 _ _ (hNM.2 k _ _ hk (List.getElem?_eq_getElem hkR))
    rw [e1] at this; exact this.1
  have hnd : (bl.map (yC T)).Nodup := by
    have : bl.map (yC T) = bl.map (yC T1) := List.map_congr_left (fun x hx => hcl x (hblN x hx))
    rw [this, ebl]; exact bxL_nodup _ _ List.nodup_nil
  have x14 : rd σ2 74 14 = i32 ((fst + bl.length : Nat) : Int) := by rw [c74 14 (by decide)]; exact hBXL.2.1
  have hfl : fst + bl.length ≤ ln σ' 81 ∧ ln σ' 81 ≤ 2048 := ⟨hBXL.1.2.2.1, hBXL.1.2.2.2.1⟩
  obtain ⟨o1, o2⟩ := mn_lt p7 x14 b14.1 (by omega) (by omega)
  obtain ⟨_, o3⟩ := mn_lt p8 x14 b14.1 (by omega) (by omega)
  have l85b : ln σ2 85 ≤ 65536 := by
    obtain ⟨_, _, _, _, _, _, h5, _⟩ := hJ0.1
    exact h5.le (k := 85) (M := 65536) (by decide)
  obtain ⟨s1, s2⟩ := mn_lt p9 c3 b16 (by omega) (by omega)
  have hfsE := b14.2.1
  obtain ⟨sg1, sg2, sg3, _⟩ := b3 g (by omega)
  obtain ⟨_, _, _, _, _, _, sC72, sC71, sCl, sC2, sC73⟩ := sg1
  have hgl : G.ng g = (nfil (fun k => ow k = -1) bl.length).length := a2.1
  have hBOX : BOX g fst bl.length (fun i => bl.getD i 0) σ := ⟨by rw [(p3 g (by omega)).2.2.2.1, ftl.1 79 rfl]; exact hBXL.1.1, by rw [(p3 g (by omega)).2.2.2.2, ftl.1 80 rfl]; exact hBXL.1.2.1, by omega, l81, fun i hi => by rw [o2 (fst + i) (by omega), ftl.1 81 rfl]; exact hBXL.1.2.2.2.2 i hi⟩
  refine ⟨(fun _ => bl.length, fun _ => ow, fun q i => R.idxOf (T1.2.1.2.2.1 (pnM D τ1 q i)) + 1, fun j => nfil (mkM D Gg g T1.2.1.2.2.1 R ow τ' (by' j)) R.length), ⟨fst, bl, ⟨rfl, l60, ⟨?_, ?_, by omega, l81, fun i hi => ?_⟩, b14.2.2, fun x hx => Nat.lt_of_lt_of_le (hblN x hx) hN1c, hnd, fun k hk => ?_⟩, fun q i h1 h2 hi => ?_, ⟨hgl, sC72, sC71, sCl, sC2, sg3, fun i hi => ?_⟩, fun p h1 h2 => ?_, ⟨l70, fun p h1 h2 h3 h4 => ?_⟩, fun j j1 j2 => ?_⟩, ⟨⟨?_, ?_, fun i hi => ?_, fun k hk => ?_⟩, fun q i h1 h2 hi => ?_, fun p h1 h2 => ?_, fun p h1 h2 h3 h4 => ?_, pt, by', hpt, fun j j1 j2 => ?_⟩, ⟨Gg, T1, T', n0, fst, kc0, rf, cf0, kf0, Bm, pe0, bl, R, ow, pe, pt, by', kc, cf, kg, kf, gf, gk, σa, τ1, σ', τ', σ2, τ2, a1, a2, a3, ⟨t1, t2, t3, t4, t5⟩, a5, ⟨Nk, Nm, n1, n2, n3, n4, n5⟩, ⟨hcfB, hkgB⟩, a6, a7, a8, a9, a10, rfl, fun _ => rfl, fun _ _ _ _ => rfl, fun _ _ _ => rfl, fun q i h1 h2 h3 h4 hi => (calR q h1 h2 h3 h4).choose_spec.choose_spec.2.2.2.2.1 i hi |>.1, hBOX⟩⟩
  · rw [(p3 g (by omega)).2.2.2.1, ftl.1 79 rfl]; exact hBXL.1.1
  · rw [(p3 g (by omega)).2.2.2.2, ftl.1 80 rfl]; exact hBXL.1.2.1
  · rw [o2 (fst + i) (by omega), ftl.1 81 rfl]; exact hBXL.1.2.2.2.2 i hi
  · have hk : k < bl.length := hk
    rw [o3 (fst + k) (by omega)]
    exact ⟨c1 k hk, (how k (by rw [← llen]; exact hk)).2⟩
  · obtain ⟨i1, i2⟩ := hidx q i h1 h2 hi
    obtain ⟨x1, x2⟩ := hpl q i h1 h2 hi
    have hkb : R.idxOf (T1.2.1.2.2.1 (pnM D τ1 q i)) < bl.length := by rw [llen]; exact i1
    refine ⟨by show 1 ≤ R.idxOf _ + 1; omega, by show R.idxOf _ + 1 ≤ bl.length; omega, ?_, by rw [(epn q i h1 h2 hi).1]; omega⟩
    show yC T (bl.getD (R.idxOf _ + 1 - 1) 0) = yC T (pnC D σ q i)
    rw [Nat.add_sub_cancel, (epn q i h1 h2 hi).1]
    have hgd : bl[R.idxOf (T1.2.1.2.2.1 (pnM D τ1 q i))]? = some (bl.getD (R.idxOf (T1.2.1.2.2.1 (pnM D τ1 q i))) 0) := by rw [List.getD_eq_getElem?_getD, List.getElem?_eq_getElem hkb]; rfl
    rw [hcl _ (hblN _ (List.mem_of_getElem? hgd)), hcl _ x1, hz1.1 _ _ _ _ (hNM.2 _ _ _ hgd i2) (hpz q i h1 h2 hi), gM]
  · rw [sC73 i hi, a2.2.2.1]
    unfold XCn nfT
    rw [if_neg (by omega), if_neg (by omega), show D.bk g + 1 + i - (D.bk g + 1) = i by omega]; rfl
  · rw [eo p h2, show oT σ p = oT σa p by unfold oT; rw [eo p h2]]; exact (t1.1 p h1 h2).1
  · obtain ⟨k0, k1, f1, f2, f3, f4, f5, f6⟩ := calR p h1 h2 h3 h4
    obtain ⟨⟨_, _, _, _, _, _, s72, _⟩, _, s24, _⟩ := b3 (D.vl p) (by omega)
    have := b5.2.1
    exact ⟨k0, f1, by omega, fun i hi => ⟨by rw [(f5 i hi).1]; exact (f5 i hi).2.1, by rw [(f5 i hi).1]; have := (f5 i hi).2.2; omega⟩, s72, s24⟩
  · obtain ⟨x1, x2, x3, x4⟩ := c9 j j1 j2
    have x2 : kf j + (nfil (mkM D Gg g T1.2.1.2.2.1 R ow τ' (by' j)) R.length).length ≤ kc := x2
    have hl := nfil_len (mk := mkM D Gg g T1.2.1.2.2.1 R ow τ' (by' j)) R.length
    refine ⟨?_, ?_, fun x hx => ?_, kf j, ?_, ?_, ?_, fun i hi => ?_⟩
    · rw [(p4 j (by omega)).2]; exact x3
    · show (nfil _ R.length).length ≤ 60; omega
    · obtain ⟨y, y1, _, y3⟩ := (nfil_mem R.length).mp hx
      show 1 ≤ x ∧ x ≤ bl.length
      omega
    · rw [(p4 j (by omega)).1]; exact x1
    · exact Nat.le_trans x2 (Nat.le_trans s1 b16')
    · exact Nat.lt_of_le_of_lt x2 (by omega)
    · have hi : i < (nfil (mkM D Gg g T1.2.1.2.2.1 R ow τ' (by' j)) R.length).length := hi
      rw [s2 (kf j + i) (Nat.lt_of_lt_of_le (Nat.add_lt_add_left hi _) x2)]; exact x4 i hi
  · rw [(w3 g (by omega)).2.1, k190, ← llen]; rfl
  · rw [(w3 g (by omega)).2.2.1, kN.1, ← llen]; rfl
  · have hi' : i < (nfil (fun k => ow k = -1) bl.length).length := hi
    have h24 : (nfil (fun k => ow k = -1) bl.length).length ≤ 24 := by rw [← hgl]; exact sg3
    rw [((w3 g (by omega)).2.2.2.2 i (by omega)).1, kN.2.1 i (by rw [← llen]; exact hi'), ← llen]; rfl
  · have hk : k < bl.length := hk
    have hkR : k < R.length := by rw [← llen]; exact hk
    have := ((w3 g (by omega)).2.2.2.2 (k + 1) (by omega)).2.2
    rw [show 64 * g + k + 1 = 64 * g + (k + 1) by omega, this, show 64 * g + (k + 1) = 64 * g + k + 1 by omega]
    exact (kN.2.2 k _ hkR (List.getElem?_eq_getElem hkR)).2
  · obtain ⟨i1, i2⟩ := hidx q i h1 h2 hi
    obtain ⟨x1, x2⟩ := hpl q i h1 h2 hi
    have x63 : rd τ2 123 63 = i32 ((T2f g).2.1.1 : Int) := by
      obtain ⟨_, _, ⟨h1, _⟩, _⟩ := hJ0.2.1
      exact h1.1
    have y63 : rd τ 123 63 = i32 (T.2.1.1 : Int) := by
      obtain ⟨_, _, ⟨h1, _⟩, _⟩ := b1.1.2.1
      exact h1.1
    obtain ⟨_, o6⟩ := mn_lt w7 x63 y63 (by rw [m1]; omega) (by omega)
    have hrlt : T1.2.1.2.2.1 (pnM D τ1 q i) < T1.2.1.1 := by
      have := hJ0.plm.2.1 (pnM D τ1 q i) (by rw [m1]; exact x2)
      rw [m1, m3] at this; exact this
    rw [(epn q i h1 h2 hi).2, hrl _ x2]
    refine ⟨?_, by omega⟩
    rw [o6 _ (by rw [m1]; exact hrlt), ftm.rd (j := 184) rfl]
    exact (hNU.2.2.1 _ _ i2).2.1
  · rw [eom p h2, show oM τ p = oM τ1 p by unfold oM; rw [eom p h2]]; exact (t2.1 p h1 h2).1
  · obtain ⟨k0, k1, f1, f2, f3, f4, f5, f6⟩ := calR p h1 h2 h3 h4
    obtain ⟨_, ⟨_, _, _, _, _, _, s191, _⟩, s24, _⟩ := b3 (D.vl p) (by omega)
    have := b6.2.1
    exact ⟨k1, f3, by omega, fun i hi => ⟨by rw [(f6 i hi).1]; exact (f6 i hi).2.1, by rw [(f6 i hi).1]; have := (f6 i hi).2.2; omega⟩, s191, s24⟩
  · obtain ⟨⟨x1, x2, x3, x4, x5, x6⟩, x7, x8⟩ := kKPF j j1 j2
    obtain ⟨y1, y2, y3, y4, y5, y6⟩ := w1 (pt j) (by have := (hpt j j1 j2).2.1; omega)
    obtain ⟨v1, v2⟩ := mn_lt w5 q1 b18 (by omega) (by omega)
    obtain ⟨v3, v4⟩ := mn_lt w6 q2 b19 (by omega) (by omega)
    refine ⟨gf j, gk j, by omega, ?_, by rw [y3]; exact x1, by rw [y4]; exact x2, fun i hi => by rw [v2 _ (by omega)]; exact x3 i hi, by rw [y5]; exact x4, by rw [y6]; exact x5, fun i hi => ?_⟩
    · show gk j + (nfil _ R.length).length ≤ 40000; omega
    · have hi : i < (nfil (mkM D Gg g T1.2.1.2.2.1 R ow τ' (by' j)) R.length).length := hi
      rw [v4 _ (by omega)]; exact x6 i hi
end FNGCG
