/-! BETWEEN FUNCTIONS: the state behind a function -/
section NEXTE
variable {σ τ σa τa σ' τ' τ1 σ2 τ2 : tvS} {K1 K2 f : Nat} {Rc Rm : Nat → Nat → Prop} {pd pd1 : List (Nat × List Nat × (Nat → Nat))} {n u a rc rc1 rl : Nat} {T Ta T1 T' T2 : tyJ} {T0f T2f : Nat → tyJ} {D : pgD} {G : sgD} {m : Nat} {cp : Nat → List (Nat × Nat)} {bS vs us sc : Nat → Nat} {cl : Nat → List Nat}
/-- the types of a signature, when a function more is known -/
noncomputable def sgX (D : pgD) (G : sgD) (f rf : Nat) (bl R : List Nat) (ow : Nat → Int) (σa τ1 : tvS) : sgD := sgN G f (nfil (fun k => ow k = -1) bl.length).length rf (XCn D f bl ow σa) (XMn D f R ow τ1)
def upT (F : Nat → tyJ) (f : Nat) (T : tyJ) : Nat → tyJ := fun g => if g = f then T else F g
def Rcx (D : pgD) (f : Nat) (T2 : tyJ) (σa : tvS) (Rc : Nat → Nat → Prop) : Nat → Nat → Prop := fun g => if g = f then RSg (yG T2) (yC T2) (yH T2) (SGb D f (vT σa) (rT σa f)) else Rc g
def Rmx (D : pgD) (f : Nat) (T2 : tyJ) (τ1 : tvS) (Rm : Nat → Nat → Prop) : Nat → Nat → Prop := fun g => if g = f then RSg T2.2.1.2.1 T2.2.1.2.2.1 T2.2.1.2.2.2.1 (SGb D f (vM τ1) (rM τ1 f)) else Rm g
theorem FNG.go {g rf : Nat} {bl R : List Nat} {ow : Nat → Int} (hF : PGF D m) (hf : f ≤ D.fc) (h : FNG D K1 K2 g G T0f T2f T σ τ) (hg : g < f) (hc : PRc D f σ σ2) (hm : PRm D f τ τ2) (he : exT T.1.1 T.2.1.1 T T2) : FNG D K1 K2 g (sgX D G f rf bl R ow σa τ1) (upT T0f f T) (upT T2f f T2) T2 σ2 τ2 := by
  have ne : ∀ g', g' ≤ g → g' ≠ f := fun g' h => by omega
  have G1 : ∀ g', g' ≤ g → (sgX D G f rf bl R ow σa τ1).ng g' = G.ng g' ∧ (sgX D G f rf bl R ow σa τ1).rf g' = G.rf g' ∧ (sgX D G f rf bl R ow σa τ1).XC g' = G.XC g' ∧ (sgX D G f rf bl R ow σa τ1).XM g' = G.XM g' := fun g' h => ⟨if_neg (ne g' h), if_neg (ne g' h), if_neg (ne g' h), if_neg (ne g' h)⟩
  have T1e : ∀ g', g' ≤ g → upT T0f f T g' = T0f g' ∧ upT T2f f T2 g' = T2f g' := fun g' h => ⟨if_neg (ne g' h), if_neg (ne g' h)⟩
  obtain ⟨Gg, T1, T', n0, fst, kc0, rf', cf0, kf0, Bm, pe0, bl', R', ow', pe, pt, by', kc, cf, kg, kf, gf, gk, σa', τ1', σ', τ', σ2', τ2', a1, a2, a3, a4, a5, a5', a5n, a6, a7, a8, a9, a10⟩ := h
  refine ⟨Gg, T1, T', n0, fst, kc0, rf', cf0, kf0, Bm, pe0, bl', R', ow', pe, pt, by', kc, cf, kg, kf, gf, gk, σa', τ1', σ', τ', σ2', τ2', fun g' hg' => ?_, ?_, ?_, a4, a5, a5', a5n, ?_, a7.trans (hc.le hF (by omega) (by omega)), a8.trans (hm.le hF (by omega) (by omega)), ?_, fun g' hg' => ?_⟩
  · obtain ⟨b1, b2, b3, b4⟩ := G1 g' (by omega)
    rw [b1, b2, b3, b4]; exact a1 g' hg'
  · obtain ⟨b1, b2, b3, b4⟩ := G1 g (Nat.le_refl _)
    rw [b1, b2, b3, b4]; exact a2
  · rw [(T1e g (Nat.le_refl _)).1]; exact a3
  · rw [(T1e g (Nat.le_refl _)).2]; exact a6
  · rw [(T1e g (Nat.le_refl _)).2]
    exact a9.trans (he.le a9.2.2.1 a9.2.2.2.1)
  · rw [(T1e g' (by omega)).2, (T1e g (Nat.le_refl _)).1]; exact a10 g' hg'
theorem TYB.next {n0 fst kc0 rf cf0 kf0 : Nat} {pe0 : Nat → Nat} {bl R : List Nat} {ow : Nat → Int} {pe pt by' : Nat → Nat} {kc cf kg : Nat} {kf gf gk : Nat → Nat} (hF : PGF D m) (hf : f ≤ D.fc) (hB : TYB D m K1 K2 cp bS vs us sc cl f G Rc Rm T0f T2f T σ τ) (hI : TYI K1 K2 T.1.1 T.2.1.1 f Rc Rm D G rl (D.bP (f + 1)) (D.bP (f + 1)) (nB D (f + 1)) (uB D (f + 1)) a pd rc Ta σa τa)
    (wc : frT FC42 FT42 [8, 11, 12, 14] σ σa) (wm : frM FM42 FMF τ τa) (hex : exT T.1.1 T.2.1.1 T Ta) (hKP : ∃ (Nk' : Nat) (ce' : Nat → Nat), KP Nk' ce' σa ∧ Nk' + 30 * rB D (f + 1) ≤ 32768) (oc : ORc D f σ σa) (om : ORm D f τ τa)
    (hI1 : TYI K1 K2 T.1.1 T.2.1.1 f Rc Rm D G rl (D.bP (f + 1)) (D.bP (f + 1)) (nB D (f + 1)) (uB D (f + 1)) a pd1 rc1 T1 σa τ1) (hd : ∀ q, D.bP f ≤ q → q < D.bP (f + 1) → D.K q = 3 → D.vl q < f → ∃ n1 : Nat, rd τ1 181 q = i32 (n1 : Int) ∧ n1 < 60000) (hex1 : exT T.1.1 T.2.1.1 Ta T1) (wm1 : frM FMO FMF τa τ1) (om1 : ORm D f τa τ1) (hg : GHO D G f (D.bP (f + 1)) (D.bP (f + 1)) T T1 σa)
    (h : REC D G K1 K2 f n0 fst kc0 rf cf0 kf0 pe0 T.2.1.1 T1 T' T2 bl R ow pe pt by' kc cf kg kf gf gk σa τ1 σ' τ' σ2 τ2) (hrl : rB D (f + 1) ≤ rl) (hbd : BDG (nB D (f + 1)) (uB D (f + 1)) (aB D (f + 1)) (rB D (f + 1)) T2) (hH : T2.1.2.2.2.2.1 + 100 * rB D (f + 1) < 212000)
    (hBX : BXS fst σa) (hfst : fst ≤ 60 * f) (hn0 : n0 ≤ D.bP f + 24 * toc D f) (hk18 : rd σa 74 18 = i32 (kc0 : Int)) (hkc0 : kc0 ≤ 60 * D.bF f) (h13r : rd σa 65 13 = i32 (rf : Int)) (hrf : rf ≤ 24 * f) (hrf3 : ∀ g, g < f → G.rf g + G.ng g ≤ rf) (h103 : rd τa 123 103 = i32 (cf0 : Int)) (hcf0 : cf0 ≤ 40 * D.bF f) (h107 : rd τa 123 107 = i32 (kf0 : Int)) (hkf0 : kf0 ≤ 60 * D.bF f) (hbF : D.bF (D.fc + 1) ≤ 200) (hn24 : ∀ g, g < f → G.ng g ≤ 24) :
    TYB D m K1 K2 cp bS vs us sc cl (f + 1) (sgX D G f rf bl R ow σa τ1) (Rcx D f T2 σa Rc) (Rmx D f T2 τ1 Rm) (upT T0f f T) (upT T2f f T2) T2 σ2 τ2 := by
  have hb4 := hF.1
  have hPf := hF.2.2 f hf
  have hfn := fnN_le hF hf
  obtain ⟨u1, u2, u3, u4⟩ := hF.up (D.fc + 1 - (f + 1)) (f + 1) (by omega)
  rw [show f + 1 + (D.fc + 1 - (f + 1)) = D.fc + 1 by omega] at u1 u2 u3 u4
  have hle := hPf.1
  obtain ⟨b1, b2, b3, b4, b5, b6, b7, ⟨b8, b9, b10⟩, ⟨b11, b12⟩, b13, b14, b15, b16, b17, b18, b19, b20⟩ := hB
  have hV := hF.V hf
  have hPRc := h.prc hF hf wc oc hBX (by omega) hk18 (by omega) h13r (by omega)
  have h63 : rd τ 123 63 = i32 (T.2.1.1 : Int) := by
    obtain ⟨_, _, ⟨h1, _⟩, _⟩ := b1.1.2.1
    exact h1.1
  have hexR := h.ex hI1
  have hexA : exT T.1.1 T.2.1.1 T T2 := hex.trans (hex1.trans hexR)
  have hPRm := h.prm hF hf wm om wm1 om1 h103 h107 (by omega) (by omega) h63 hexA.2.2.2.1
  have hTJ := h.tj hF hf hI1 hd hbd
  obtain ⟨hOL, hng, hbox⟩ := h.olf hF hf hI1 hd hg hrf3 (by omega) hV
  obtain ⟨r1, r2, r3, r4, r5, _⟩ := hI1.reg hF hf hd
  have hv1 : ∀ v, D.tV f ≤ v → v < D.tV (f + 1) → _ := fun v h1 h2 => (hI1.2.2.2.2.2.1 v (hPf.tv h1 h2)).nat hI1.1
  have hCLN : CLN D G f σa τ1 := by
    obtain ⟨⟨Nk, ce, Nm, cm, p1, p2, p3, _, _, p6⟩, _⟩ := hI1.2.2.2
    refine ⟨Nk, Nm, p1.1, Nat.le_trans p1.2.1 p2, p3.1, p3.2.1, fun q q1 q2 q3 q4 => ?_⟩
    obtain ⟨k0, e1, e2, _, e4⟩ := p6 q q1 q2 q3 q4
    obtain ⟨k2, f1, f2⟩ := hd q q1 q2 q3 q4
    rcases e4 with ⟨g1, _⟩ | ⟨k1, g1, g2, _⟩
    · rw [g1] at f1
      have := (i32_inj (by omega) (by omega) (by omega) (by omega)).mp f1
      omega
    · exact ⟨k0, k1, e1, e2, g1, g2⟩
  have h0 := h
  obtain ⟨hO, ⟨hpt, _⟩, hJ0, ⟨e1, e2, e3, e4⟩, ⟨m1, m2, m3, m4⟩, e5, hEc, ⟨nb, hEm⟩, hS⟩ := h
  obtain ⟨_, _, _, _, _, _, ⟨l60, llen, hNM, hBXL, hNU, h184⟩, ⟨hQP, hpeN, _⟩, _, how, h76, frc, f50, f74, ⟨f8182, f7980⟩, _, _, ⟨ebl, eR, _⟩, frx⟩ := hO
  obtain ⟨c1, c2, ⟨c3, c4, c5, c6⟩, c7, c8, c9, ⟨c71, c72, co, cRG⟩, c74, c65, ftl, _⟩ := hEc
  obtain ⟨kN, k190, k195, ko195, koth, ⟨q1, q2, q3, q4, q5, q6⟩, k198, k201, kq, _, ftm⟩ := hEm
  have ec : ∀ j, inL (50 :: FC42) j = false → inL FRC j = false → inL FTL j = false → ∀ i, rd σ2 j i = rd σ j i := fun j h1 h2 h3 i => by rw [ftl.1 j h3, frc.1 j h2, wc.rd h1]
  have em : ∀ j, inL (123 :: FM42) j = false → inL (123 :: FMO) j = false → inL (123 :: FRX) j = false → inL (123 :: FTM) j = false → ∀ i, rd τ2 j i = rd τ j i := fun j h1 h2 h3 h4 i => by rw [ftm.rd h4, frx.rd h3, wm1.rd h2, wm.rd h1]
  have offc : ∀ (A : List Nat) (j : Nat), (A.all fun j => !inL (50 :: FC42) j && !inL FRC j && !inL FTL j) = true → inL A j = true → ∀ i, rd σ2 j i = rd σ j i := fun A j hA hj i => by
    have hx : ∀ L : List Nat, (L.all fun j => !inL (50 :: FC42) j && !inL FRC j && !inL FTL j) = true → inL L j = true → inL (50 :: FC42) j = false ∧ inL FRC j = false ∧ inL FTL j = false := by
      intro L
      induction L with
      | nil => intro _ h; cases h
      | cons y L ih =>
        intro h1 h2
        rw [List.all_cons, Bool.and_eq_true] at h1
        have h2 : (Nat.beq j y || inL L j) = true := h2
        rcases (Bool.or_eq_true _ _).mp h2 with e | e
        · have : j = y := Nat.eq_of_beq_eq_true e
          rw [this]
          have := h1.1
          simp only [Bool.and_eq_true, Bool.not_eq_true'] at this
          exact ⟨this.1.1, this.1.2, this.2⟩
        · exact ih h1.2 e
    obtain ⟨x1, x2, x3⟩ := hx A hA hj
    exact ec j x1 x2 x3 i
  have offm : ∀ (A : List Nat) (j : Nat), (A.all fun j => !inL (123 :: FM42) j) = true → (A.all fun j => !inL (123 :: FMO) j) = true → (A.all fun j => !inL (123 :: FRX) j) = true → (A.all fun j => !inL (123 :: FTM) j) = true → inL A j = true → ∀ i, rd τ2 j i = rd τ j i := fun A j h1 h2 h3 h4 hj i => em j (inL_off h1 j hj) (inL_off h2 j hj) (inL_off h3 j hj) (inL_off h4 j hj) i
  refine ⟨hTJ, b2.to (fun j hj i => offc prC j (by decide) hj i) (fun j hj i => offm prM j (by decide) (by decide) (by decide) (by decide) hj i), hOL, ?_, ?_, ?_, hH, ⟨b8.to (fun j hj i => offc _ j (by decide) hj i) ?_, b9.to (fun i => offc [43] 43 (by decide) rfl i) (fun j hj i => offm _ j (by decide) (by decide) (by decide) (by decide) hj i), b10.to (fun i => offc [15] 15 (by decide) rfl i) (fun i => offc [30] 30 (by decide) rfl i) (fun i => offm [146] 146 (by decide) (by decide) (by decide) (by decide) rfl i)⟩, ⟨?_, fun l hl => ?_⟩, ?_, ?_, ?_, ?_, ?_, ?_, ?_, ?_⟩
  · -- regions that are given are boxed
    intro g hgf i hi
    by_cases c : g = f
    · subst c
      have n1 : (sgX D G g rf bl R ow σa τ1).ng g = (nfil (fun k => ow k = -1) bl.length).length := if_pos rfl
      have n3 : (sgX D G g rf bl R ow σa τ1).XC g = XCn D g bl ow σa := if_pos rfl
      rw [n1] at hi
      rw [n3]
      obtain ⟨q, q1, q2, q3⟩ := nfil_get hi
      have : XCn D g bl ow σa (D.bk g + 1 + i) = bl.getD q 0 := by
        unfold XCn nfT
        rw [if_neg (by omega), if_neg (by omega), show D.bk g + 1 + i - (D.bk g + 1) = i by omega, q3]; rfl
      rw [this, e2, e3]
      exact hbox q q1 q2
    · have n1 : (sgX D G f rf bl R ow σa τ1).ng g = G.ng g := if_neg c
      have n3 : (sgX D G f rf bl R ow σa τ1).XC g = G.XC g := if_neg c
      rw [n1] at hi
      rw [n3]
      have hx := ((b3 g (by omega)).2.2.2 (D.bk g + 1 + i) (by omega)).2.1.1
      have hk := b4 g (by omega) i hi
      have := hexA.2.1 (G.XC g (D.bk g + 1 + i)) (by show (yG T).1 (yC T _) ≠ 0; omega)
      show 2 ≤ T2.1.2.1.1 (T2.1.2.2.1 _)
      rw [this]; exact hk
  · obtain ⟨Nk, ce, p1, p2⟩ := hKP
    exact ⟨Nk, ce, ⟨by rw [c65 9 (by decide), frc.1 65 rfl]; exact p1.1, by rw [(ftl.2.2 70 rfl).1, (frc.2.2 70 rfl).1]; exact p1.2.1, fun i hi => by rw [ftl.1 70 rfl, frc.1 70 rfl]; exact p1.2.2 i hi⟩, p2⟩
  · obtain ⟨⟨Nk, ce, Nm, cm, _, _, p3, p4, p5, _⟩, _⟩ := hI1.2.2.2
    exact ⟨Nm, cm, ⟨by rw [ftm.2.1 82 rfl, frx.2.1 82 rfl]; exact p3.1, p3.2.1, fun i hi => by rw [ftm.rd (j := 182) rfl, frx.rd (j := 182) rfl]; exact p3.2.2 i hi⟩, by omega⟩
  · exact ⟨by rw [(ftl.2.2 40 rfl).1, (frc.2.2 40 rfl).1, (wc.1.2.2 40 rfl).1], by rw [(ftl.2.2 41 rfl).1, (frc.2.2 41 rfl).1, (wc.1.2.2 41 rfl).1]⟩
  · rw [ftm.2.1 5 rfl, frx.2.1 5 rfl, wm1.2 5 rfl, wm.2 5 rfl]; exact b11
  · rw [offc [13] 13 (by decide) rfl, offm [127] 127 (by decide) (by decide) (by decide) (by decide) rfl]; exact b12 l hl
  · -- puts
    refine ⟨_, pe, ⟨by rw [c74 7 (by decide)]; exact hQP.1, by rw [(ftl.2.2 75 rfl).1]; exact hQP.2.1, by rw [(ftl.2.2 75 rfl).1, (ftl.2.2 76 rfl).1]; exact hQP.2.2.1, fun i hi => by rw [ftl.1 75 rfl]; exact hQP.2.2.2 i hi⟩, fun i hi => by rw [e1]; exact hpeN i hi, ?_⟩
    have := puL_bound (D := D) (G := G) (f := f) hn24 (D.bP (f + 1) - D.bP f)
    have ht : toc D (f + 1) = toc D f + ocn D f (D.bP f) (D.bP (f + 1) - D.bP f) := rfl
    omega
  · refine ⟨fst + bl.length, ⟨by rw [c74 14 (by decide)]; exact hBXL.2.1, ?_, ?_⟩, by omega⟩
    · rw [(ftl.2.2 81 rfl).1]; exact hBXL.1.2.2.1
    · rw [(ftl.2.2 81 rfl).1, (ftl.2.2 82 rfl).1]; exact hBXL.2.2
  · intro t ht
    rw [m1] at ht
    rw [ftm.rd (j := 184) rfl]
    refine hNU.2.2.2.1 t (Nat.le_trans hI1.1.2.2.1.2.1 ht) (fun hx => ?_)
    rw [eR] at hx
    rcases (nmL_mem _ _).mp hx with k | ⟨y, k1, k2⟩
    · cases k
    · obtain ⟨e, he, e2'⟩ := List.mem_map.mp k1
      have hm := puL_mem _ e he
      have hz := hI1.1.1.2.2.2.2.1 _ _ (r5.2.2.2 e.1 e.2 hm.1 (by omega) hm.2.2)
      have : T1.2.1.2.2.1 y < T1.2.1.1 := by
        rw [← e2']
        have := hJ0.plm.2.1 (pnM D τ1 e.1 e.2) (by rw [m1]; exact hz.2)
        rw [m1, m3] at this; exact this
      omega
  · exact ⟨kc, c3, c4, by omega⟩
  · refine ⟨_, cRG.1, cRG.2.1, by omega, fun g hgf => ?_⟩
    by_cases c : g = f
    · subst c
      have n1 : (sgX D G g rf bl R ow σa τ1).ng g = (nfil (fun k => ow k = -1) bl.length).length := if_pos rfl
      have n2 : (sgX D G g rf bl R ow σa τ1).rf g = rf := if_pos rfl
      rw [n1, n2]; exact Nat.le_refl _
    · have n1 : (sgX D G f rf bl R ow σa τ1).ng g = G.ng g := if_neg c
      have n2 : (sgX D G f rf bl R ow σa τ1).rf g = G.rf g := if_neg c
      rw [n1, n2]
      have := hrf3 g (by omega); omega
  · exact ⟨cf, q1, by omega⟩
  · exact ⟨kg, q2, by omega⟩
  · intro g hgf
    by_cases c : g = f
    · subst c
      refine ⟨G, T1, T', n0, fst, kc0, rf, cf0, kf0, T.2.1.1, pe0, bl, R, ow, pe, pt, by', kc, cf, kg, kf, gf, gk, σa, τ1, σ', τ', σ2, τ2, fun g' hg' => ?_, ⟨if_pos rfl, if_pos rfl, if_pos rfl, if_pos rfl⟩, ?_, ⟨r1, r2, r3, r4, r5⟩, fun v h1 h2 => ⟨(hv1 v h1 h2).1, (hv1 v h1 h2).2.1, (hv1 v h1 h2).2.2.2.2.1⟩, hCLN, ⟨by omega, by omega⟩, ?_, PRc.refl, PRm.refl, ?_, fun g' hg' => ?_⟩
      · have ne : g' ≠ g := by omega
        exact ⟨(if_neg ne).symm, (if_neg ne).symm, (if_neg ne).symm, (if_neg ne).symm⟩
      · rw [show upT T0f g T g = T from if_pos rfl]; exact hg
      · rw [show upT T2f g T2 g = T2 from if_pos rfl]; exact h0
      · rw [show upT T2f g T2 g = T2 from if_pos rfl]; exact exT.refl
      · rw [show upT T0f g T g = T from if_pos rfl, show upT T2f g T2 g' = T2f g' from if_neg (by omega)]
        obtain ⟨_, _, _, _, _, _, _, _, _, _, _, _, _, _, _, _, _, _, _, _, _, _, _, _, _, _, _, _, _, _, _, _, _, _, _, _, _, _, _, a9, _⟩ := b20 g' hg'
        exact a9
    · exact (b20 g (by omega)).go hF hf (by omega) hPRc hPRm hexA
end NEXTE
