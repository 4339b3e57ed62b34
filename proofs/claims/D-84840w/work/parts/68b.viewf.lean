/-! WHAT WAS FOUND, plainly: a function -/
/-- what a fn keeps, by numbers -/
def kpN (D : pgD) (G : sgD) (rg : rgD) (g e k : Nat) : Prop := ∃ q, spn D e q ∧ ((∃ i, i < D.np G g q ∧ rg.nu q i = k + 1) ∨ (D.K q = 3 ∧ D.vl q = g ∧ rg.ow g k = -1)) ∧ kpt D (rg.ow g) k e
/-- a function: types, copies, numbers, what is held; T0 at its start, T2 at its end, T at the end of all -/
def VWf (K1 K2 : Nat) (D : pgD) (G : sgD) (rg : rgD) (g : Nat) (T0 T2 T : tyJ) (bl : List Nat) (pt by' : Nat → Nat) (σ τ : tvS) : Prop :=
  ((∃ σ2 τ2, TJ0 K1 K2 T2 σ2 τ2) ∧ exT T2.1.1 T2.2.1.1 T2 T) ∧
  ((∀ p, D.bP g ≤ p → p < D.bP (g + 1) → oT σ p < T2.1.1 ∧ EQx D g T2 σ p (oT σ p) ∧ EQp D g T2 σ p) ∧ (∀ v, D.tV g ≤ v → v < D.tV (g + 1) → vT σ v < T2.1.1) ∧ rT σ g < T2.1.1 ∧ ∀ q i, D.bP g ≤ q → q < D.bP (g + 1) → D.K q = 3 → D.vl q < g → i < D.cn G q → cT σ q i < T2.1.1) ∧
  (∀ q, D.bP g ≤ q → q < D.bP (g + 1) → D.K q = 3 → D.vl q < g → ∃ (SL : List Nat) (im : Nat → Nat), CPH T0 T2 SL im ∧ ∀ i, i < D.cn G q → cov (yG T0) (yC T0) SL im (G.XC (D.vl q) i) (cT σ q i)) ∧
  (bl.length = rg.nK g ∧ bl.length ≤ 60 ∧ BOX g ((ix (rd σ 79 g))) bl.length (fun i => bl.getD i 0) σ ∧ (∀ x, x ∈ bl → x < T2.1.1) ∧ (bl.map (yC T2)).Nodup) ∧
  (∀ q i, D.bP g ≤ q → q < D.bP (g + 1) → i < D.np G g q → (1 ≤ rg.nu q i ∧ rg.nu q i ≤ rg.nK g) ∧ yC T2 (bl.getD (rg.nu q i - 1) 0) = yC T2 (pnC D σ q i) ∧ TGT D g (fun p => rBx D g (yG T2) (yC T2) (yH T2) σ p (pnC D σ q i)) q (rg.ow g (rg.nu q i - 1))) ∧
  (∀ k, k < rg.nK g → ∃ q i, D.bP g ≤ q ∧ q < D.bP (g + 1) ∧ i < D.np G g q ∧ rg.nu q i = k + 1) ∧
  (FNP D g pt by' ∧ ∀ j, D.bF g ≤ j → j < D.bF (g + 1) → rg.kp j = nfil (kpN D G rg g (by' j)) (rg.nK g)) ∧
  (∀ j q, D.bF g ≤ j → j < D.bF (g + 1) → spn D (by' j) q → D.K q = 2 → D.vl q ∈ D.sl (pt j) → (yG T2).1 (yC T2 (vT σ (D.vl q))) ≠ 1 → hQ (yC T2) (yH T2) (yC T2 (oT σ (pt j))) (yC T2 (vT σ (D.vl q)))) ∧
  (∀ j k, D.bF g ≤ j → j < D.bF (g + 1) → k ∈ rg.kp j → (yG T2).1 (yC T2 (bl.getD (k - 1) 0)) ≠ 1 → hQ (yC T2) (yH T2) (yC T2 (oT σ (pt j))) (yC T2 (bl.getD (k - 1) 0))) ∧
  (G.ng g = (rg.gl g).length ∧ (∀ i, i < D.bk g → G.XC g i = vT σ (D.tV g + i)) ∧ G.XC g (D.bk g) = rT σ g ∧ ∀ i, i < G.ng g → G.XC g (D.bk g + 1 + i) = bl.getD ((rg.gl g).getD i 0 - 1) 0) ∧
  (∃ A U Hh, A ≤ 24 ∧ MSR (yG T2) (yC T2) (yH T2) (SGb D g (vT σ) (rT σ g)) A U Hh ∧ rd τ 195 g = i32 (A : Int)) ∧ ∀ p, D.bP g ≤ p → p < D.bP (g + 1) → ¬ GRT (yG T2) (yC T2) (yH T2) (fun b => b = oT σ p)
section VIEWF
variable {σ τ : tvS} {K1 K2 g : Nat} {T : tyJ} {T0f T2f : Nat → tyJ} {D : pgD} {G : sgD} {m : Nat} {rg : rgD}
theorem TGT.rb {f : Nat} {rb rb' : Nat → Prop} {p0 : Nat} {o : Int} (h : TGT D f rb p0 o) (e : ∀ p, D.bP f ≤ p → p < D.bP (f + 1) → (rb p ↔ rb' p)) : TGT D f rb' p0 o := by
  rcases h with ⟨h1, h2⟩ | ⟨p, h1, h2, h3, h4, h5, h6⟩
  · exact .inl ⟨h1, fun p p1 p2 p3 => (e p p1 p2).mp (h2 p p1 p2 p3)⟩
  · exact .inr ⟨p, h1, h2, h3, h4, fun q => h5 ((e p h1 h2).mpr q), fun p' q1 q2 q3 => (e p' q1 (by omega)).mp (h6 p' q1 q2 q3)⟩
theorem FNGr.view (hF : PGF D m) (hg : g ≤ D.fc) (h : FNGr rg D K1 K2 g G T0f T2f T σ τ) : ∃ (bl : List Nat) (pt by' : Nat → Nat), VWf K1 K2 D G rg g (T0f g) (T2f g) T bl pt by' σ τ := by
  have hb4 := hF.1
  have hPf := hF.2.2 g hg
  obtain ⟨Gg, T1, T', n0, fst, kc0, rf, cf0, kf0, Bm, pe0, bl, R, ow, pe, pt, by', kc, cf, kg, kf, gf, gk, σa, τ1, σ', τ', σ2, τ2, a1, a2, a3, ⟨t1, t2, t3, t4, t5⟩, a5, _, _, a6, a7, a8, a9, a10, r1, r2, r3, r4, r5, r6⟩ := h
  obtain ⟨hO, ⟨hpt, har, hLF, _⟩, hJ0, ⟨e1, e2, e3, e4⟩, ⟨m1, m2, m3, m4⟩, e5, hEc, ⟨nb, hEm⟩, hS⟩ := a6
  obtain ⟨⟨o1, o2, o3⟩, _, _, _, oge, _, ⟨l60, llen, hNM, hBXL, hNU, h184⟩, _, _, how, h76, frc, _, f74, _, _, _, ⟨ebl, eR, _⟩, frx⟩ := hO
  obtain ⟨c1, c2, ⟨c3, c4, c5, c6⟩, c7, c8, c9, ⟨c71, c72, co, cRG⟩, c74, c65, ftl, _⟩ := hEc
  obtain ⟨kN, k190, k195, ko195, koth, ⟨q1, q2, q3, q4, q5, q6⟩, k198, k201, kq, kKPF, ftm⟩ := hEm
  obtain ⟨p1, p2, p3, p4, p5, p6, p7, p8, p9⟩ := a7
  obtain ⟨w1, w2, w3, w4, w5, w6, w7⟩ := a8
  have e3' : yC (T2f g) = yC T1 := e3
  have e2' : yG (T2f g) = yG T1 := e2
  have e4' : yH (T2f g) = yH T' := e4
  have hI : ∀ x, yC T1 (yC T1 x) = yC T1 x := by
    have := hJ0.plc.1
    rw [e3'] at this; exact this
  have ec : ∀ j, inL FRC j = false → inL FTL j = false → ∀ i, rd σ2 j i = rd σa j i := fun j h1 h2 i => by rw [ftl.1 j h2, frc.1 j h1]
  have eo : ∀ q, q < D.bP (g + 1) → oT σ q = oT σa q := fun q h => by unfold oT; rw [(p1 q h).1, ec 66 rfl rfl]
  have ev : ∀ v, v < D.tV (g + 1) → vT σ v = vT σa v := fun v h => by unfold vT; rw [p2 v h, ec 67 rfl rfl]
  have er : rT σ g = rT σa g := by unfold rT; rw [(p3 g (by omega)).1, ec 68 rfl rfl]
  have hnp : ∀ q, D.np Gg g q = D.np G g q := np_congr (fun g' h => (a1 g' h).1)
  have hcn : ∀ q, D.vl q < g → D.cn Gg q = D.cn G q := fun q h => by unfold pgD.cn; rw [(a1 _ h).1]
  have epn : ∀ q i, D.bP g ≤ q → q < D.bP (g + 1) → i < D.np G g q → pnC D σ q i = pnC D σa q i := fun q i h1 h2 hi => by
    unfold pnC
    by_cases k : D.K q = 4 ∨ D.K q = 16 ∨ D.K q = 17
    · rw [if_pos k, if_pos k, eo q h2]
    · rw [if_neg k, if_neg k]
      unfold pgD.np at hi
      rw [if_neg k] at hi
      by_cases k3 : D.K q = 3 ∧ D.vl q < g
      · rw [if_pos k3] at hi
        have hc : D.cn G q = D.bk (D.vl q) + 1 + G.ng (D.vl q) := rfl
        exact r5 q _ h1 h2 k3.1 k3.2 (by omega)
      · rw [if_neg k3] at hi; omega
  have hkid : ∀ p w c : Nat, D.bP g ≤ p → p < D.bP (g + 1) → (D.kd p)[w]? = some c → c < D.bP (g + 1) := fun p w c h1 h2 hk => by
    have := (contN.at _ _ _ _ _ (hPf.2.2.1 p h1 h2).2.1 hk)
    omega
  have hbd : ∀ p v, D.bP g ≤ p → p < D.bP (g + 1) → v ∈ D.bd p → v < D.tV (g + 1) := fun p v h1 h2 hv => ((hPf.2.2.1 p h1 h2).2.2.2.2.2.2.2 v hv).2
  have hsl : ∀ p v, D.bP g ≤ p → p < D.bP (g + 1) → v ∈ D.sl p → v < D.tV (g + 1) := fun p v h1 h2 hv => (hPf.inV hv h1 h2).2
  have ebx : ∀ x k a b, bxT T1 x k a b → bxT (T2f g) x k a b := fun x k a b q => by unfold bxT at q ⊢; rw [e2', e3']; exact q
  have ebs : ∀ p b, D.bP g ≤ p → p < D.bP (g + 1) → (Bsh D g σ p b ↔ Bsh D g σa p b) := fun p b h1 h2 => by
    unfold Bsh
    rw [eo p h2, er]
    constructor
    · rintro (q | ⟨v, v1, v2⟩ | q)
      · exact .inl q
      · exact .inr (.inl ⟨v, v1, by rw [← ev v (hsl p v h1 h2 v1)]; exact v2⟩)
      · exact .inr (.inr q)
    · rintro (q | ⟨v, v1, v2⟩ | q)
      · exact .inl q
      · exact .inr (.inl ⟨v, v1, by rw [ev v (hsl p v h1 h2 v1)]; exact v2⟩)
      · exact .inr (.inr q)
  have erb : ∀ p y, D.bP g ≤ p → p < D.bP (g + 1) → (rBx D g (yG T1) (yC T1) (yH T') σa p y ↔ rBx D g (yG (T2f g)) (yC (T2f g)) (yH (T2f g)) σ p y) := fun p y h1 h2 => by
    unfold rBx
    rw [e2', e3', e4']
    exact ⟨fun q => ⟨q.1.mono (fun b hb => (ebs p b h1 h2).mpr hb), q.2⟩, fun q => ⟨q.1.mono (fun b hb => (ebs p b h1 h2).mp hb), q.2⟩⟩
  have gM : ∀ x, T1.2.1.2.2.1 (T1.2.1.2.2.1 x) = T1.2.1.2.2.1 x := by
    have := hJ0.plm.1
    rw [m3] at this; exact this
  have hJz := hJ0.2.2
  rw [e5] at hJz
  have hz1 : zG (yG T1) (yC T1) T1.2.1.2.1 T1.2.1.2.2.1 T1.2.2 := by
    have := hJz.1
    rw [show (T2f g).1.2.1 = yG T1 from e2, show (T2f g).1.2.2.1 = yC T1 from e3, m2, m3] at this
    exact this
  have hblN : ∀ x, x ∈ bl → x < T1.1.1 := fun x hx => by
    obtain ⟨k, k1, k2⟩ := List.mem_iff_getElem.mp hx
    have hk : bl[k]? = some x := by rw [List.getElem?_eq_getElem k1, k2]
    have hkR : k < R.length := by rw [← llen]; exact k1
    have := hJz.2.2.1 _ _ (hNM.2 k _ _ hk (List.getElem?_eq_getElem hkR))
    rw [e1] at this; exact this.1
  have hpuL : ∀ q i, D.bP g ≤ q → q < D.bP (g + 1) → i < D.np G g q → ∃ n, (puL D Gg g (D.bP (g + 1) - D.bP g))[n]? = some (q, i) := fun q i h1 h2 hi => by
    have hi' : i < D.np Gg g q := by rw [hnp]; exact hi
    have hh := puL_at (D := D) (Gs := Gg) (f := g) (q - D.bP g) i (by rw [show D.bP g + (q - D.bP g) = q by omega]; exact hi')
    rw [show D.bP g + (q - D.bP g) = q by omega] at hh
    have h2' := puL_pre (D.bP (g + 1) - (q + 1)) _ _ _ hh
    rw [show q - D.bP g + 1 + (D.bP (g + 1) - (q + 1)) = D.bP (g + 1) - D.bP g by omega] at h2'
    exact ⟨_, h2'⟩
  have hRm2 : ∀ q i, D.bP g ≤ q → q < D.bP (g + 1) → i < D.np G g q → T1.2.1.2.2.1 (pnM D τ1 q i) ∈ R := fun q i h1 h2 hi => by
    rw [eR]
    unfold nmK
    obtain ⟨n, hn⟩ := hpuL q i h1 h2 hi
    exact (nmL_mem _ _).mpr (.inr ⟨pnM D τ1 q i, List.mem_map.mpr ⟨(q, i), List.mem_of_getElem? hn, rfl⟩, rfl⟩)
  have hidx : ∀ q i, D.bP g ≤ q → q < D.bP (g + 1) → i < D.np G g q → R.idxOf (T1.2.1.2.2.1 (pnM D τ1 q i)) < R.length ∧ R[R.idxOf (T1.2.1.2.2.1 (pnM D τ1 q i))]? = some (T1.2.1.2.2.1 (pnM D τ1 q i)) := fun q i h1 h2 hi => by
    have hlt := List.idxOf_lt_length_of_mem (hRm2 q i h1 h2 hi)
    exact ⟨hlt, by rw [List.getElem?_eq_getElem hlt, List.getElem_idxOf hlt]⟩
  have hpz : ∀ q i, D.bP g ≤ q → q < D.bP (g + 1) → i < D.np G g q → T1.2.2 (pnC D σa q i) (pnM D τ1 q i) := fun q i h1 h2 hi => t5.2.2.2 q i h1 h2 (by rw [hnp]; exact hi)
  have hRnd : R.Nodup := hNU.2.2.2.2
  have hnuk : ∀ q i k, D.bP g ≤ q → q < D.bP (g + 1) → (R[k]? = some (T1.2.1.2.2.1 (pnM D τ1 q i)) ↔ (T1.2.1.2.2.1 (pnM D τ1 q i) ∈ R ∧ rg.nu q i = k + 1)) := fun q i k h1 h2 => by
    rw [r3 q i h1 h2]
    constructor
    · intro hk
      refine ⟨List.mem_of_getElem? hk, ?_⟩
      obtain ⟨hk1, hk2⟩ := List.getElem?_eq_some_iff.mp hk
      have := List.Nodup.idxOf_getElem hRnd k hk1
      rw [hk2] at this; omega
    · rintro ⟨hm, hk⟩
      have hlt := List.idxOf_lt_length_of_mem hm
      have : R.idxOf (T1.2.1.2.2.1 (pnM D τ1 q i)) = k := by omega
      rw [← this, List.getElem?_eq_getElem hlt, List.getElem_idxOf hlt]
  have hput : ∀ q i, D.bP g ≤ q → q < D.bP (g + 1) → i < D.np G g q → (1 ≤ rg.nu q i ∧ rg.nu q i ≤ bl.length) ∧ yC T1 (bl.getD (rg.nu q i - 1) 0) = yC T1 (pnC D σ q i) ∧ TGT D g (fun p => rBx D g (yG (T2f g)) (yC (T2f g)) (yH (T2f g)) σ p (pnC D σ q i)) q (ow (rg.nu q i - 1)) := fun q i h1 h2 hi => by
    obtain ⟨i1, i2⟩ := hidx q i h1 h2 hi
    have hkb : R.idxOf (T1.2.1.2.2.1 (pnM D τ1 q i)) < bl.length := by rw [llen]; exact i1
    have hgd : bl[R.idxOf (T1.2.1.2.2.1 (pnM D τ1 q i))]? = some (bl.getD (R.idxOf (T1.2.1.2.2.1 (pnM D τ1 q i))) 0) := by rw [List.getD_eq_getElem?_getD, List.getElem?_eq_getElem hkb]; rfl
    have hnu := r3 q i h1 h2
    refine ⟨by omega, ?_, ?_⟩
    · rw [hnu, Nat.add_sub_cancel, epn q i h1 h2 hi, hz1.1 _ _ _ _ (hNM.2 _ _ _ hgd i2) (hpz q i h1 h2 hi), gM]
    · obtain ⟨n, hn⟩ := hpuL q i h1 h2 hi
      have := (h76 n _ _ hn ⟨h1, h2, by rw [hnp]; exact hi, i2⟩).2
      rw [hnu, Nat.add_sub_cancel]
      exact this.rb (fun p p1 p2 => by
        show rBx D g (yG T1) (yC T1) (yH T') σa p (pnC D σa q i) ↔ _
        rw [epn q i h1 h2 hi]; exact erb p _ p1 p2)
  have how' : rg.ow g = ow := funext r2
  have hkp : ∀ j, D.bF g ≤ j → j < D.bF (g + 1) → rg.kp j = nfil (kpN D G rg g (by' j)) bl.length := fun j j1 j2 => by
    rw [r4 j j1 j2, llen]
    obtain ⟨f1, f2, f3, f4, f5⟩ := hpt j j1 j2
    have hby := contN.at _ _ _ _ _ (hPf.2.2.1 _ f1 f2).2.1 f5
    have hst := (hPf.2.2.1 _ f1 f2).1.2.2.1
    have ep : ∀ q i, pnM D τ' q i = pnM D τ1 q i := fun q i => by
      unfold pnM oM cM
      rw [frx.rd (j := 178) rfl, frx.rd (j := 182) rfl, frx.rd (j := 181) rfl]
    refine nfil_congr _ (fun k hk => ?_)
    have hsp : ∀ q, spn D (by' j) q → D.bP g ≤ q ∧ q < D.bP (g + 1) := fun q hq => by
      have := hq.1
      have := hq.2
      omega
    constructor
    · rintro ⟨q, s1, _, s3, s4⟩
      obtain ⟨z1, z2⟩ := hsp q s1
      refine ⟨q, s1, ?_, by rw [how']; exact s4⟩
      rcases s3 with ⟨i, i1, i2⟩ | ⟨x1, x2, _, x3⟩
      · rw [ep] at i2
        exact .inl ⟨i, by rw [← hnp]; exact i1, ((hnuk q i k z1 z2).mp i2).2⟩
      · exact .inr ⟨x1, x2, by rw [r2]; exact x3⟩
    · rintro ⟨q, s1, s3, s4⟩
      obtain ⟨z1, z2⟩ := hsp q s1
      refine ⟨q, s1, hk, ?_, by rw [← how']; exact s4⟩
      rcases s3 with ⟨i, i1, i2⟩ | ⟨x1, x2, x3⟩
      · exact .inl ⟨i, by rw [hnp]; exact i1, by rw [ep]; exact (hnuk q i k z1 z2).mpr ⟨hRm2 q i z1 z2 i1, i2⟩⟩
      · exact .inr ⟨x1, x2, hk, by rw [← r2]; exact x3⟩
  have hsur : ∀ k, k < bl.length → ∃ q i, D.bP g ≤ q ∧ q < D.bP (g + 1) ∧ i < D.np G g q ∧ rg.nu q i = k + 1 := fun k hk => by
    have hkR : k < R.length := by rw [← llen]; exact hk
    have hm := List.getElem_mem hkR
    have hg' := List.getElem?_eq_getElem hkR
    have hm' : R[k] ∈ nmK D Gg g T1.2.1.2.2.1 τ1 (D.bP (g + 1) - D.bP g) := by rw [← eR]; exact hm
    rcases (nmL_mem _ _).mp hm' with c | ⟨y, y1, y2⟩
    · cases c
    · obtain ⟨⟨q, i⟩, z1, z2⟩ := List.mem_map.mp y1
      obtain ⟨b1, b2, b3⟩ := puL_mem _ _ z1
      have b3 : i < D.np Gg g q := b3
      have z2 : pnM D τ1 q i = y := z2
      have b1 : D.bP g ≤ q := b1
      have b2 : q < D.bP g + (D.bP (g + 1) - D.bP g) := b2
      have hq2 : q < D.bP (g + 1) := by have := hPf.1.1; omega
      refine ⟨q, i, b1, hq2, by rw [← hnp]; exact b3, ((hnuk q i k b1 hq2).mp ?_).2⟩
      rw [z2, y2]; exact hg'
  have hle : ∀ (Q : Nat → Nat → Prop), CLS D g (yG T1) (yC T1) (yH T1) (Bsh D g σa) (D.np Gg g) (pnC D σa) (fun j => oT σa (pt j)) by' (sfM D g by') (cpC D pt by' σa) Q → ∀ t v, yC T1 t = t → yH T' t v → Q t (yC T1 v) := fun Q hQ t v ht hv => (hLF t (yC T1 v) ht).mpr ⟨v, hv, rfl⟩ Q hQ
  refine ⟨bl, pt, by', ⟨⟨σ2, τ2, hJ0⟩, a9⟩, ⟨fun p h1 h2 => ?_, fun v h1 h2 => ?_, ?_, fun q i h1 h2 h3 h4 hi => ?_⟩, fun q h1 h2 h3 h4 => ?_, ⟨r1.symm, l60, ?_, fun x hx => by rw [e1]; exact hblN x hx, ?_⟩, fun q i h1 h2 hi => ?_, fun k hk => hsur k (by rw [← r1]; exact hk), ⟨hpt, fun j j1 j2 => by rw [r1]; exact hkp j j1 j2⟩, fun j q j1 j2 s1 s2 s3 s4 => ?_, fun j k j1 j2 hk hk1 => ?_, ⟨?_, fun i hi => ?_, ?_, fun i hi => ?_⟩, ?_, fun p h1 h2 => ?_⟩
  · rw [eo p h2, e1]
    refine ⟨(t1.1 p h1 h2).2, ?_, ?_⟩
    · obtain ⟨x1, x2, x3, x4, x5, x6, x7⟩ := a3.2.1 p h1 h2
      obtain ⟨_, _, _, _, _, _, _, bd8⟩ := hPf.2.2.1 p h1 h2
      refine ⟨x1, fun k => ?_, fun k => ?_, fun k => ?_, fun c b k k0 k1 => ?_, fun c k0 => ?_, fun b k k1 => ?_⟩
      · obtain ⟨z, hz⟩ := x2 k
        exact ⟨z, ebx _ _ _ _ hz⟩
      · rw [ev _ (hsl p _ h1 h2 ((hPf.2.2.1 p h1 h2).2.2.2.2.1 k))]; exact x3 k
      · rw [x4 k]
        by_cases q : D.vl p = g
        · rw [if_pos q, if_pos q, er]
        · rw [if_neg q, if_neg q]
          have hv := ((hPf.2.2.1 p h1 h2).2.2.2.1 k).2.1
          exact (r5 p _ h1 h2 k (by omega) (by unfold pgD.cn; omega)).symm
      · rw [eo c (hkid p 0 c h1 h2 k0), eo b (hkid p 1 b h1 h2 k1)]; exact ebx _ _ _ _ (x5 c b k k0 k1)
      · rw [eo c (hkid p 0 c h1 h2 k0)]
        obtain ⟨y1, y2, y3, y4⟩ := x6 c k0
        refine ⟨fun k => ?_, fun k => ?_, fun k => ?_, fun k => ?_⟩
        · obtain ⟨z, hz⟩ := y1 k; exact ⟨z, ebx _ _ _ _ hz⟩
        · obtain ⟨z, hz⟩ := y2 k; exact ⟨z, ebx _ _ _ _ hz⟩
        · obtain ⟨z, hz⟩ := y3 k; exact ⟨z, ebx _ _ _ _ hz⟩
        · rw [ev _ (hbd p _ h1 h2 (by unfold pgD.bd; rw [if_pos k]; exact List.mem_cons_self))]; exact ebx _ _ _ _ (y4 k)
      · rw [eo b (hkid p 1 b h1 h2 k1)]; exact x7 b k k1
    · obtain ⟨x1, x2⟩ := a3.2.2.1 p h1 h2
      refine ⟨fun k => by rw [eo p h2, er, e3']; exact x1 k, fun q w z1 z2 hk => ?_⟩
      obtain ⟨y1, y2, y3, y4, y5, y6, y7⟩ := x2 q w z1 z2 hk
      have hP := hPf.2.2.1 q z1 z2
      refine ⟨fun k => ?_, fun k k' c k0 => ?_, fun k => ?_, fun k k' c k0 => ?_, fun k k' b k0 => ?_, fun k k' => ?_, fun k k' => ?_⟩
      · rw [eo p h2, e3', y1 k]
        obtain ⟨_, hv, _, hl⟩ := hP.2.2.2.1 k
        have hw : w < D.bk (D.vl q) := by
          rw [← hl]; exact (List.getElem?_eq_some_iff.mp hk).1
        by_cases c : D.vl q = g
        · rw [if_pos c, if_pos c, ev]
          have := hPf.1.2.1
          rw [c] at hw; omega
        · rw [if_neg c, if_neg c, r5 q w z1 z2 k (by omega) (by unfold pgD.cn; omega)]
      · rw [eo p h2, eo c (hkid q 0 c z1 z2 k0)]
        obtain ⟨z, hz⟩ := y2 k k' c k0
        exact ⟨z, ebx _ _ _ _ hz⟩
      · rw [eo p h2, e3']; exact y3 k
      · rw [eo p h2, eo c (hkid q 0 c z1 z2 k0)]; exact ebx _ _ _ _ (y4 k k' c k0)
      · rw [eo p h2, eo b (hkid q 1 b z1 z2 k0), e3']; exact y5 k k' b k0
      · rw [eo p h2, ev _ (hbd q _ z1 z2 (by unfold pgD.bd; rw [if_neg (by omega), if_pos k]; exact List.mem_cons_self))]; exact y6 k k'
      · have hb1 : D.vl q < D.tV (g + 1) := hbd q _ z1 z2 (by unfold pgD.bd; rw [if_neg (by omega), if_neg (by omega), if_pos k]; exact List.mem_cons_self)
        have hb2 : D.vl q + 1 < D.tV (g + 1) := hbd q _ z1 z2 (by unfold pgD.bd; rw [if_neg (by omega), if_neg (by omega), if_pos k]; exact List.mem_cons_of_mem _ List.mem_cons_self)
        rw [eo p h2, ev _ hb1, ev _ hb2, e3']
        exact ⟨ebx _ _ _ _ (y7 k k').1, (y7 k k').2⟩
  · rw [ev v h2, e1]; exact (a5 v h1 h2).2.1
  · rw [er, e1]; exact t1.2.2.2
  · rw [r5 q i h1 h2 h3 h4 hi, e1]
    obtain ⟨_, _, _, g3, _⟩ := t3.2 q h1 h2 h3 h4
    exact (g3 i (by rw [hcn q h4]; exact hi)).2
  · obtain ⟨SL, im, s1, s2⟩ := a3.2.2.2 q h1 h2 h3 h4
    refine ⟨SL, im, fun t ht => ?_, fun i hi => ?_⟩
    · obtain ⟨x1, x2⟩ := s1 t ht
      refine ⟨fun k => ?_, fun u hu hk => ?_⟩
      · obtain ⟨a, b, y1, y2, y3⟩ := x1 k
        exact ⟨a, b, y1, y2, ebx _ _ _ _ y3⟩
      · obtain ⟨v, w, y1, y2, y3⟩ := x2 u hu hk
        exact ⟨v, w, y1, by rw [e3', e4']; exact oge _ _ (hI _) y2, by rw [e3']; exact y3⟩
    · rw [r5 q i h1 h2 h3 h4 hi, ← (a1 _ h4).2.2.1]; exact s2 i (by rw [hcn q h4]; exact hi)
  · have hf79 : ix (rd σ 79 g) = fst := by rw [r6.1, i32_ixn (by have := r6.2.2.1; have := r6.2.2.2.1; omega)]
    rw [hf79]; exact r6
  · rw [e3', ebl]; exact bxL_nodup _ _ List.nodup_nil
  · obtain ⟨x1, x2, x3⟩ := hput q i h1 h2 hi
    exact ⟨by rw [r1]; exact x1, by rw [e3']; exact x2, by rw [how']; exact x3⟩
  · obtain ⟨f1, f2, f3, f4, f5⟩ := hpt j j1 j2
    have hv : D.vl q < D.tV (g + 1) := hsl _ _ f1 f2 s3
    rw [e3', eo _ f2, ev _ hv, e4']
    rw [e3', e2', ev _ hv] at s4
    exact (hLF _ _ (hI _)).mp (fun Q hQ => hQ.2.1 j _ j1 j2 ⟨q, s1, s2, s3, rfl⟩ s4)
  · obtain ⟨f1, f2, f3, f4, f5⟩ := hpt j j1 j2
    have hby := contN.at _ _ _ _ _ (hPf.2.2.1 _ f1 f2).2.1 f5
    have hst := (hPf.2.2.1 _ f1 f2).1.2.2.1
    rw [hkp j j1 j2] at hk
    obtain ⟨k', k1, ⟨q, s1, s3, s4⟩, k3⟩ := (nfil_mem bl.length).mp hk
    subst k3
    rw [Nat.add_sub_cancel] at hk1 ⊢
    rw [e3', eo _ f2, e4']
    rw [e3', e2'] at hk1
    have hqr : D.bP g ≤ q ∧ q < D.bP (g + 1) := by
      have := s1.1
      have := s1.2
      omega
    refine (hLF _ _ (hI _)).mp (fun Q hQ => ?_)
    have hup : ∀ p y, D.bP g ≤ p → p < D.bP (g + 1) → rBx D g (yG (T2f g)) (yC (T2f g)) (yH (T2f g)) σ p y → RQ (yG T1) (yC T1) (fun t v => Q t (yC T1 v)) (Bsh D g σa p) y ∧ 2 ≤ (yG T1).1 (yC T1 y) := fun p y p1 p2 hr => by
      obtain ⟨y1, y2⟩ := (erb p y p1 p2).mpr hr
      exact ⟨y1.le hI (fun t v ht hv => ⟨v, hle Q hQ t v ht hv, rfl⟩), y2⟩
    rcases s3 with ⟨i, i1, i2⟩ | ⟨x1, x2, x3⟩
    · obtain ⟨_, y2, y3⟩ := hput q i hqr.1 hqr.2 i1
      rw [i2, Nat.add_sub_cancel] at y2 y3
      rw [how'] at s4
      have hb := TGT.beyond y3 s1 s4
      have ep := epn q i hqr.1 hqr.2 i1
      rw [y2, ep] at hk1 ⊢
      refine hQ.2.2.1 j q i j1 j2 s1 (by rw [hnp]; exact i1) (fun p p1 p2 p3 p4 => ?_) hk1
      rw [← ep]
      exact hup p _ p1 p2 (hb p p1 p2 p3 p4)
    · obtain ⟨q', i, b1, b2, b3, b4⟩ := hsur k' k1
      obtain ⟨_, y2, y3⟩ := hput q' i b1 b2 b3
      rw [b4, Nat.add_sub_cancel] at y2 y3
      rw [r2] at x3
      have ep := epn q' i b1 b2 b3
      rw [y2, ep] at hk1 ⊢
      refine hQ.2.2.2 j q' i j1 j2 ⟨q, s1, x1, x2⟩ b1 b2 (by rw [hnp]; exact b3) (fun p p1 p2 p3 p4 => ?_) hk1
      rw [← ep]
      rcases y3 with ⟨_, y4⟩ | ⟨p0, _, _, y4, _⟩
      · exact hup p _ p1 p2 (y4 p p1 p2 p4)
      · omega
  · rw [a2.1]
    unfold rgD.gl
    rw [how', r1]
  · rw [a2.2.2.1]
    unfold XCn
    rw [if_pos hi, ev]
    have := hPf.1.2.1
    omega
  · rw [a2.2.2.1]
    unfold XCn
    rw [if_neg (by omega), if_pos rfl, er]
  · rw [a2.2.2.1]
    unfold XCn nfT
    rw [if_neg (by omega), if_neg (by omega), show D.bk g + 1 + i - (D.bk g + 1) = i by omega]
    unfold rgD.gl
    rw [how', r1]
  · obtain ⟨⟨A, U, Hh, s1, _, _, s2, _, s3⟩, _⟩ := hS
    refine ⟨A, U, Hh, s1, ?_, by rw [(w3 g (by omega)).2.2.2.1]; exact s3⟩
    have es : SGb D g (vT σ) (rT σ g) = SGb D g (vT σ2) (rT σ2 g) := by
      funext b
      have e1 : rT σ g = rT σ2 g := by unfold rT; rw [(p3 g (by omega)).1]
      have e2 : ∀ k, k < D.bk g → vT σ (D.tV g + k) = vT σ2 (D.tV g + k) := fun k hk => by
        unfold vT; rw [p2]
        have := hPf.1.2.1
        omega
      unfold SGb
      rw [e1]
      refine propext ⟨fun q => ?_, fun q => ?_⟩
      · rcases q with q | ⟨k, k1, k2⟩
        · exact .inl q
        · exact .inr ⟨k, k1, by rw [← e2 k k1]; exact k2⟩
      · rcases q with q | ⟨k, k1, k2⟩
        · exact .inl q
        · exact .inr ⟨k, k1, by rw [e2 k k1]; exact k2⟩
    rw [es]; exact s2
  · have := hS.2.1 p h1 h2
    have e : oT σ2 p = oT σ p := by unfold oT; rw [(p1 p h2).1]
    rw [e] at this; exact this
end VIEWF
