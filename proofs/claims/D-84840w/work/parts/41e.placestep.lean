/-! TYPING, BOTH: what the place of a part wants, whatever it is -/
theorem contN.nd {st : Nat → Nat} : ∀ (l : List Nat) (s p : Nat), contN st s l p → l.Nodup := by
  intro l
  induction l with
  | nil => intro s p _; exact List.nodup_nil
  | cons k r ih =>
    intro s p h
    obtain ⟨a1, a2, a3, a4⟩ := h
    refine List.nodup_cons.mpr ⟨fun hm => ?_, ih _ _ a4⟩
    obtain ⟨w, hw⟩ := List.getElem?_of_mem hm
    have := contN.at _ _ _ _ _ a4 hw
    omega
section PLACEALL
variable {L : Nat} {xs : Nat → Int32} {σ σ' τ τ' : tvS}
variable {K1 K2 Bc Bm f : Nat} {Rc Rm : Nat → Nat → Prop} {pd pd' : List (Nat × List Nat × (Nat → Nat))} {n u a rc rc' : Nat} {T T' T1 : tyJ} {D : pgD} {G : sgD} {m : Nat}
theorem frT_drop {k : Nat} {S T F : List Nat} (h : frT (k :: S) T F σ σ') (hk : ∀ i, rd σ' k i = rd σ k i) : frT S T F σ σ' := by
  refine ⟨⟨fun j hj i => ?_, h.1.2⟩, h.2⟩
  by_cases e : j = k
  · rw [e]; exact hk i
  · refine h.1.1 j ?_ i
    have hj : (Nat.beq j 50 || inL S j) = false := hj
    show (Nat.beq j 50 || (Nat.beq j k || inL S j)) = false
    rw [Bool.or_eq_false_iff] at hj
    rw [hj.1, hj.2]
    cases q : Nat.beq j k with
    | false => rfl
    | true => exact absurd (Nat.eq_of_beq_eq_true q) e
theorem frM_drop {k : Nat} {S F : List Nat} (h : frM (k :: S) F τ τ') (hk : ∀ i, rd τ' k i = rd τ k i) : frM S F τ τ' := by
  refine ⟨⟨fun j hj i => ?_, h.1.2⟩, h.2⟩
  by_cases e : j = k
  · rw [e]; exact hk i
  · refine h.1.1 j ?_ i
    have hj : (Nat.beq j 123 || inL S j) = false := hj
    show (Nat.beq j 123 || (Nat.beq j k || inL S j)) = false
    rw [Bool.or_eq_false_iff] at hj
    rw [hj.1, hj.2]
    cases q : Nat.beq j k with
    | false => rfl
    | true => exact absurd (Nat.eq_of_beq_eq_true q) e
/-- one more place is done with -/
theorem TYI.next {rl p : Nat} (h : TYI K1 K2 Bc Bm f Rc Rm D G rl (p + 1) p n u a pd rc T σ τ) (hv : ∀ r : Nat, D.bP f ≤ r → r < D.bP (f + 1) → (D.K r = 19 ∨ D.K r = 20) → (D.kd r)[0]? = some p → ∀ v, v ∈ D.bd r → mat Bc Bm T (rd σ 67 v) (rd τ 179 v))
    (hk : ∀ r : Nat, D.bP f ≤ r → r < D.bP (f + 1) → (D.K r = 5 ∨ D.K r = 6 ∨ D.K r = 7) → (D.kd r)[0]? = some p → matk (if D.K r = 7 then 4 else 2) Bc Bm T (rd σ 66 p) (rd τ 178 p)) : TYI K1 K2 Bc Bm f Rc Rm D G rl (p + 1) (p + 1) n u a pd rc T σ τ := by
  obtain ⟨h1, h2, h3, h4, q1, q2, q3, q4⟩ := h
  refine ⟨h1, h2, h3, h4, q1, fun v hh => ?_, fun r c g1 g2 g3 g4 g5 => ?_, q4⟩
  · rcases hh with hh | hh | ⟨r, c, g1, g2, g3, g4, g5, g6⟩
    · exact q2 v (.inl hh)
    · exact q2 v (.inr (.inl hh))
    · by_cases e : c = p
      · subst e; exact hv r g1 g2 g3 g4 v g6
      · exact q2 v (.inr (.inr ⟨r, c, g1, g2, g3, g4, by omega, g6⟩))
  · by_cases e : c = p
    · subst e; exact hk r g1 g2 g3 g4
    · exact q3 r c g1 g2 g3 g4 (by omega)
def FMU : List Nat := [166, 167, 168, 169, 170, 171, 172, 173, 174, 175, 176, 177, 179, 181, 182, 183]
/-- what is to be shown of a place -/
def PST2 (L : Nat) (xs : Nat → Int32) (K1 K2 Bc Bm f : Nat) (Rc Rm : Nat → Nat → Prop) (D : pgD) (G : sgD) (rl p n u a d dm : Nat) (T : tyJ) (σ τ : tvS) : Prop :=
  (∃ σ0 τ', rn L xs (d + 6) 149 0 [.ref 65, .int (i32 (p : Int)), .int (i32 (f : Int)), jv, jv, jv] [] σ = some (.inr (1016, (rm σ0).1), cFlt σ0 5 (rd σ 13 (D.lx p))) ∧ rn L xs (dm + 8) 340 0 [.ref 123, .int (i32 (f : Int)), .int (i32 (p : Int)), jv, jv, jv, jv, jv] [] τ = some (.inl (some (.int 0)), τ') ∧ RMQ K1 K2 σ0 ∧ frT (67 :: FCW) FTW [8, 12, 14] σ σ0 ∧ frM FMU FMF τ τ') ∨
  (∃ σ' τ' T' pd' rc', rn L xs (d + 6) 149 0 [.ref 65, .int (i32 (p : Int)), .int (i32 (f : Int)), jv, jv, jv] [] σ = some (.inl none, σ') ∧ rn L xs (dm + 8) 340 0 [.ref 123, .int (i32 (f : Int)), .int (i32 (p : Int)), jv, jv, jv, jv, jv] [] τ = some (.inl (some (.int 1)), τ') ∧ TYI K1 K2 Bc Bm f Rc Rm D G rl (p + 1) (p + 1) n u a pd' rc' T' σ' τ' ∧ frT (67 :: FCW) FTW [8, 12, 14] σ σ' ∧ frM FMU FMF τ τ' ∧ LOC T T' (BSp D G f p σ) (BSv D f p σ') ∧ EQp D f T' σ' p ∧ (∀ v, tvd D f p v → rd σ' 67 v = rd σ 67 v) ∧ exT Bc Bm T T' ∧ ORc D f σ σ' ∧ ORm D f τ τ')
theorem place_step {rl p : Nat} (hI : TYI K1 K2 Bc Bm f Rc Rm D G rl (p + 1) p (n + 3) u (a + 1) pd rc T σ τ) (hF : PGF D m) (hf : f ≤ D.fc) (hp1 : D.bP f ≤ p) (hp2 : p < D.bP (f + 1)) (hK2 : 6 ≤ K2) (d dm : Nat) : PST2 L xs K1 K2 Bc Bm f Rc Rm D G rl p n u a d dm T σ τ := by
  have hI0 := hI
  obtain ⟨hT, hR, hO, ⟨Nk, ce, Nm, cm, hC⟩, hS⟩ := hI
  have hPf := hF.2.2 f hf
  have hPp := hPf.2.2.1 p hp1 hp2
  have hV := hF.V hf
  have hbl := (hF.le (D.fc + 1 - (f + 1)) (f + 1) (by omega))
  have hb4 := hF.1
  have hpl : p < D.bP (D.fc + 1) := by omega
  have hlx := hPp.1.2.1
  obtain ⟨⟨r1, r2, r3, r4, r5, r6, r7⟩, _⟩ := hR.2 p hpl
  obtain ⟨x1, y1, u1, u2, u3, u4, u5⟩ := hS.1 p hp1 (by omega)
  -- a part that has p for its first kid
  have uniq : ∀ r q w : Nat, r < D.bP (f + 1) → q < D.bP (f + 1) → D.bP f ≤ r → D.bP f ≤ q → (D.kd r)[0]? = some p → (D.kd q)[w]? = some p → r = q ∧ w = 0 := by
    intro r q w a1 a2 a3 a4 a5 a6
    have e1 := ((hR.2 r (by omega)).2.2.2.1 0 p a5).1
    have e2 := ((hR.2 q (by omega)).2.2.2.1 w p a6).1
    have er : r = q := by
      have := (i32_inj (by omega) (by omega) (by omega) (by omega)).mp (e1.symm.trans e2)
      omega
    refine ⟨er, ?_⟩
    subst er
    apply Classical.byContradiction
    intro hw
    obtain ⟨b1, b2, b3, b4⟩ := contN.at _ _ _ _ _ (hPf.2.2.1 r a3 a1).2.1 a6
    have := b4 0 p (by omega) a5
    omega
  -- nothing is said of variables
  have fin : ∀ {n' a' : Nat} {Q : tyJ → tvS → tvS → Prop}, PLC L xs K1 K2 Bc Bm f Rc Rm pd pd n u a rc T p (D.lx p) d dm σ τ τ Q → (∀ T' s t, Q T' s t → k67 σ τ s t ∧ ((∀ r : Nat, D.bP f ≤ r → r < D.bP (f + 1) → (D.K r = 19 ∨ D.K r = 20) → ¬ (D.kd r)[0]? = some p) ∧ ∀ r : Nat, D.bP f ≤ r → r < D.bP (f + 1) → (D.K r = 5 ∨ D.K r = 6 ∨ D.K r = 7) → (D.kd r)[0]? = some p → T'.1.2.1.1 (T'.1.2.2.1 x1) = if D.K r = 7 then 4 else 2) ∧ LOC T T' (BSp D G f p σ) (fun _ => False) ∧ EQp D f T' σ p) → PST2 L xs K1 K2 Bc Bm f Rc Rm D G rl p n u a d dm T σ τ := by
    intro n' a' Q hP hQ
    rcases hP with ⟨s0, t0, q1, q2, q3, q4, q5⟩ | ⟨s1, t1, T1, q1, q2, q3, q4, q5, q6, q7⟩
    · exact .inl ⟨s0, t0, q1, q2, q3, q4.sub rfl rfl rfl, q5.sub rfl rfl⟩
    · obtain ⟨⟨k1, k2⟩, ⟨k3, k4⟩, k5, k6⟩ := hQ _ _ _ q7
      have wc := frT_drop q5 k1
      have wm := frM_drop q6 k2
      refine .inr ⟨s1, t1, T1, pd, rc, q1, q2, (hI0.ex q4 q3 hV wc wm).next (fun r a1 a2 a3 a4 => absurd a4 (k3 r a1 a2 a3)) (fun r a1 a2 a3 a4 => ?_), q5, q6.sub rfl rfl, k5.weak (fun _ h => h) (fun b hb => by
        obtain ⟨q', v, b1, b2, b3, b4, _⟩ := hb
        exact (k3 q' b1 b2 b3 b4).elim), k6.cg (fun i => by unfold oT; rw [wc.rd (j := 66) rfl]) (fun i => by unfold vT; rw [k1]) (by unfold rT; rw [wc.rd (j := 68) rfl]) (fun i j => by unfold cT; rw [wc.rd (j := 69) rfl, wc.rd (j := 70) rfl]), fun v _ => k1 v, q4, ORc.G wc.1 rfl, ORm.M wm rfl rfl⟩
      exact ⟨x1, y1, by rw [wc.rd (j := 66) rfl]; exact u1, by rw [wm.rd (j := 178) rfl]; exact u2, q4.1 _ _ u3, u4, u5, k4 r a1 a2 a3 a4⟩
  have nlt : ∀ {z y : Nat}, T.2.2 z y → z < 2147483648 := fun {z y} hz => by
    have := (hT.1.2.2.2.2.1 _ _ hz).1
    have : z < yN T := this
    have := hT.c0.2.2.2.2.2.2
    omega
  have hz0 : ∀ x, yN T ≤ x → (yG T).1 x = 0 := fun x hx => (hT.c0.1 x hx).2
  have eo := oT_of u1 (nlt u3)
  have lsame : LOC T T (BSp D G f p σ) (fun _ => False) := LOC.same rfl hz0 (fun P _ _ _ z hz => hz.elim)
  have hT0 := hT.less (n' := n) (a' := a) (by omega) (Nat.le_refl _) (by omega) (Nat.le_refl _)
  have hTa := hT.less (n' := n) (a' := a + 1) (by omega) (Nat.le_refl _) (Nat.le_refl _) (Nat.le_refl _)
  by_cases hw : p + 1 < D.bP (f + 1)
  · obtain ⟨q, w, z1, z2, z3⟩ := hPf.2.2.2.1 p hp1 hw
    have hq1 : D.bP f ≤ q := by omega
    have hPq := hPf.2.2.1 q hq1 z2
    obtain ⟨⟨s1, s2, s3, s4, s5, s6, s7⟩, g2, g3, g4, g5, g6, g7, g8⟩ := hR.2 q (by omega)
    obtain ⟨⟨k1, k2, k3, k4⟩, k5, k6, k7, k8, k9, k10, k11⟩ := hPq
    obtain ⟨e24, e25⟩ := g4 w p z3
    have e159 : rd τ 159 p = i32 (q : Int) := r7.trans e24
    have hwl : w < (D.kd q).length := by
      apply Classical.byContradiction
      intro k
      rw [List.getElem?_eq_none (by omega)] at z3; cases z3
    have nv : ¬ ((D.K q = 19 ∨ D.K q = 20) ∧ w = 0) → ∀ r : Nat, D.bP f ≤ r → r < D.bP (f + 1) → (D.K r = 19 ∨ D.K r = 20) → ¬ (D.kd r)[0]? = some p := fun h r a1 a2 a3 a4 => by
      obtain ⟨e1, e2⟩ := uniq r q w a2 z2 a1 hq1 a4 z3
      subst e1; exact h ⟨a3, e2⟩
    have nk : ¬ ((D.K q = 5 ∨ D.K q = 6 ∨ D.K q = 7) ∧ w = 0) → ∀ {Z : Prop} (r : Nat), D.bP f ≤ r → r < D.bP (f + 1) → (D.K r = 5 ∨ D.K r = 6 ∨ D.K r = 7) → (D.kd r)[0]? = some p → Z := fun h Z r a1 a2 a3 a4 => by
      obtain ⟨e1, e2⟩ := uniq r q w a2 z2 a1 hq1 a4 z3
      subst e1; exact (h ⟨a3, e2⟩).elim
    -- what else stands in q
    have kq : D.K q ≠ 3 → ∀ w', w' < ari (D.K q) → w' < 3 → ∃ c, (D.kd q)[w']? = some c ∧ D.bP f ≤ c ∧ c < q ∧ rd σ (20 + w') q = i32 (c : Int) ∧ rd τ (154 + w') q = i32 (c : Int) ∧ (w' < w → c < p) ∧ (c = p → w' = w) := fun h3 w' hw' h3' => by
      have hl := k6 h3
      obtain ⟨c, c1, c2, c3⟩ := PFp.kid (hPf.2.2.1 q hq1 z2) (show w' < (D.kd q).length by omega)
      obtain ⟨e1, e2⟩ := g2 h3 w' h3'
      rw [kid_at c1] at e1 e2
      have hat := contN.at _ _ _ _ _ k5 z3
      have hat' := contN.at _ _ _ _ _ k5 c1
      refine ⟨c, c1, c2, c3, e1, e2, fun h => by have := hat.2.2.2 w' c h c1; omega, fun e => ?_⟩
      apply Classical.byContradiction
      intro hne
      by_cases hlt : w' < w
      · have := hat.2.2.2 w' c hlt c1; omega
      · have := hat'.2.2.2 w p (by omega) z3; omega
    have bo : BSp D G f p σ x1 := .inr (.inl eo.symm)
    have bk0 : ∀ {w' c z : Nat}, (D.kd q)[w']? = some c → c ≤ p → oT σ c = z → BSp D G f p σ z := fun {w' c z} h1 h2 h3 => .inr (.inr (.inr ⟨q, w, hq1, z2, z3, .inl ⟨w', c, h1, h2, h3.symm⟩⟩))
    have eqp : ∀ {T' : tyJ} {s : tvS}, EQq D f T' s p q w → EQp D f T' s p := fun h => EQp.one hPf hw hq1 z2 z3 h
    have inj : ∀ c : Nat, c < 5000 → c ≠ p → i32 (c : Int) ≠ i32 (p : Int) := fun c hc hne e => hne (by
      have := (i32_inj (by omega) (by omega) (by omega) (by omega)).mp e
      omega)
    by_cases q3 : D.K q = 3
    · -- a call's
      obtain ⟨l1, l2, l3, l4⟩ := k7 q3
      obtain ⟨b1, b2, b3, b4, b5, b6⟩ := g3 q3
      have e27 := g5 (.inr (.inl q3))
      have hnd : (D.kd q).Nodup := contN.nd _ _ _ k5
      have hk23 : ∀ w c : Nat, (D.kd q)[w]? = some c → c < 4101 ∧ rd σ 23 c = kid (D.kd q) (w + 1) := fun w c hc => ⟨by have := (contN.at _ _ _ _ _ k5 hc).2.2.1; omega, b2 w c hc⟩
      have hk164 : ∀ w c : Nat, (D.kd q)[w]? = some c → c < 4101 ∧ rd τ 164 (D.gb q + w) = i32 (c : Int) := fun w c hc => ⟨by have := (contN.at _ _ _ _ _ k5 hc).2.2.1; omega, b6 w c hc⟩
      have e25' : rd σ 25 p = i32 6 := by rw [e25, q3]; rfl
      have s2' : rd τ 151 q = i32 4 := by rw [s2, q3]; rfl
      have hkk := (hF.2.2 (D.vl q) (by omega)).1.2.2.2
      by_cases qs : D.vl q = f
      · obtain ⟨x2, y2, v1, v2, v3, v4, v5⟩ := hS.2.1 (D.tV f + w) (.inl ⟨by omega, by rw [qs] at l4; omega⟩)
        have hfr := hR.1 f hf
        have ps := pass_self (L := L) (xs := xs) (kk := D.bk f) (by omega) (by omega) (by rw [e27.1, qs]) (by rw [e27.2, qs]) hfr.1.1 (by rw [qs] at hkk; exact hkk) (show w < D.bk f by rw [qs] at l4; omega) hfr.1.2.1 hfr.2.1.2.1 (by have := hPf.1.2.1; omega) v1 v2 b3 b5 hk164 hnd z3 d dm
        refine fin (n' := 0) (a' := 0) (plc_pass hK2 (by omega) e25' (by omega) e24 e159 s2' rfl b1 hk23 hnd z3 d dm ps.1 ps.2 hTa exT.refl frM.refl r3 (by omega) u1 u2 u3 v3 u4 v4 u5 v5) (fun T' s t h => ⟨h.2.1, ⟨nv (by omega), fun r a1 a2 a3 a4 => nk (by omega) r a1 a2 a3 a4⟩, h.2.2.1.weak (fun z hz => hz.elim (fun e => by rw [e]; exact bo) (fun e => .inr (.inr (.inr ⟨q, w, hq1, z2, z3, .inr (.inl ⟨q3, qs, by rw [qs] at l4; omega, e.trans (vT_of v1 (nlt v3)).symm⟩)⟩)))) (fun _ h => h.elim), eqp ⟨fun _ => by rw [if_pos qs, eo, vT_of v1 (nlt v3)]; exact h.2.2.2, fun h _ => absurd h (by omega), fun h => absurd h (by omega), fun h _ => absurd h (by omega), fun h _ => absurd h (by omega), fun h _ => absurd h (by omega), fun h _ => absurd h (by omega)⟩⟩)
      · obtain ⟨n0, n1, t1, T1, pd1, rc1, Nm1, cm1, j1, j2, j3, j4, j5, j6, j7, j8, j9, j10, j11⟩ := callget (L := L) (xs := xs) hTa hF hf hR hO hC hq1 z2 (by omega) (by omega) q3 (by omega) dm jv jv
        have hcn : D.cn G q = D.bk (D.vl q) + 1 + G.ng (D.vl q) := rfl
        obtain ⟨m1, m2, m3⟩ := j8 w (by omega)
        have ev : cT σ q w = ce (n0 + w) := by
          have e0 : ix (rd σ 69 q) = n0 := by rw [j5, i32_ixn (by have := hC.1.2.1; have := hC.2.1; omega)]
          have eb : ce (n0 + w) < 2147483648 := by
            have := (j2.1.2.2.2.2.1 _ _ m1).1
            have : ce (n0 + w) < yN T1 := this
            have := j2.c0.2.2.2.2.2.2
            omega
          unfold cT
          rw [e0, hC.1.2.2 _ (by omega), i32_ixn (by omega)]
        have po := pass_old (L := L) (xs := xs) (σ := σ) (τ := τ) (by omega) (by omega) (show D.vl q < f by omega) e27.1 e27.2 j5 (hC.1.2.2 _ (by omega)) (by have := hC.1.2.1; omega) hC.2.1 b3 b5 hk164 hnd z3 d dm j1 (by have := j4.2.2.1.2.1; omega) (j4.2.2.1.2.2 _ (by omega))
        have hI1 : TYI K1 K2 Bc Bm f Rc Rm D G rl (p + 1) p n u (a + 1) pd1 rc1 T1 σ t1 := ⟨j2, hR.fr (S := []) (T := []) (F := []) frT.refl j9 rfl rfl, (hO.ex j3).to hV (fun _ _ _ => rfl) (fun _ _ => rfl) rfl (fun j hj i => j9.rd (j := j) (inL_off rfl j hj) i) (fun v _ => j9.rd (j := 179) rfl v), ⟨Nk, ce, Nm1, cm1, j4⟩, (hS.ex j3).to (fun _ _ _ => rfl) (fun j hj i => j9.rd (j := j) (inL_off rfl j hj) i)⟩
        rcases plc_pass (T := T) (pd := pd) hK2 (by omega) e25' (by omega) e24 e159 s2' rfl b1 hk23 hnd z3 d dm po.1 po.2 j2 j3 j9 r3 (by omega) u1 u2 (j3.1 _ _ u3) m1 u4 m2 u5 m3 with ⟨s0, t0, o1, o2, o3, o4, o5⟩ | ⟨sv, tv, Tv, o1, o2, o3, o4, o5, o6, o7, o8, o9, o10⟩
        · exact .inl ⟨s0, t0, o1, o2, o3, o4.sub rfl rfl rfl, (j9.sub rfl rfl).trans (o5.sub rfl rfl)⟩
        · refine .inr ⟨sv, tv, Tv, pd1, rc1, o1, o2, (hI1.ex o7 o3 hV (frT_drop o5 o8.1) (frM_drop o6 o8.2)).next (fun r a1 a2 a3 a4 => absurd a4 (nv (by omega) r a1 a2 a3)) (fun r a1 a2 a3 a4 => nk (by omega) r a1 a2 a3 a4), o5, (j9.sub rfl rfl).trans (o6.sub rfl rfl), (o9.l j10).weak (fun z hz => hz.elim (fun e => by rw [e]; exact bo) (fun e => .inr (.inr (.inr ⟨q, w, hq1, z2, z3, .inr (.inr ⟨q3, by omega, w, by omega, e.trans ev.symm⟩)⟩)))) (fun b hb => by
            obtain ⟨q', v, b1', b2', b3', b4', _⟩ := hb
            exact (nv (by omega) q' b1' b2' b3' b4').elim), EQp.cg (σ := σ) (eqp ⟨fun _ => by rw [if_neg qs, eo, ev]; exact o10, fun h _ => absurd h (by omega), fun h => absurd h (by omega), fun h _ => absurd h (by omega), fun h _ => absurd h (by omega), fun h _ => absurd h (by omega), fun h _ => absurd h (by omega)⟩) (fun i => by unfold oT; rw [o5.rd (j := 66) rfl]) (fun i => by unfold vT; rw [o8.1]) (by unfold rT; rw [o5.rd (j := 68) rfl]) (fun i j => by unfold cT; rw [o5.rd (j := 69) rfl, o5.rd (j := 70) rfl]), fun v _ => o8.1 v, o4, ORc.G (frT_drop o5 o8.1).1 rfl, j11.trans (ORm.M (frM_drop o6 o8.2) rfl rfl)⟩
    have kq := kq q3
    by_cases q4 : D.K q = 4
    · exact fin (n' := 0) (a' := 0) (plc_none hT0 (by omega) (by rw [e25, q4]; rfl) (by omega) e159 (.inl rfl) (by rw [s2, q4]; rfl) u2 (D.lx p) d dm) (fun T' s t h => ⟨h.1, ⟨nv (by omega), fun r a1 a2 a3 a4 => nk (by omega) r a1 a2 a3 a4⟩, by rw [h.2]; exact lsame, eqp ⟨fun h => absurd h (by omega), fun h _ => absurd h (by omega), fun h => absurd h (by omega), fun h _ => absurd h (by omega), fun h _ => absurd h (by omega), fun h _ => absurd h (by omega), fun h _ => absurd h (by omega)⟩⟩)
    by_cases q17 : D.K q = 17
    · exact fin (n' := 0) (a' := 0) (plc_none hT0 (by omega) (by rw [e25, q17]; rfl) (by omega) e159 (.inr rfl) (by rw [s2, q17]; rfl) u2 (D.lx p) d dm) (fun T' s t h => ⟨h.1, ⟨nv (by omega), fun r a1 a2 a3 a4 => nk (by omega) r a1 a2 a3 a4⟩, by rw [h.2]; exact lsame, eqp ⟨fun h => absurd h (by omega), fun h _ => absurd h (by omega), fun h => absurd h (by omega), fun h _ => absurd h (by omega), fun h _ => absurd h (by omega), fun h _ => absurd h (by omega), fun h _ => absurd h (by omega)⟩⟩)
    by_cases q5 : D.K q = 5 ∨ D.K q = 6
    · have hl : (D.kd q).length = 1 := by rw [k6 q3]; rcases q5 with e | e <;> rw [e] <;> rfl
      have hw0 : w = 0 := by omega
      refine fin (n' := 0) (a' := 0) (plc_box (k := 2) (ρ := 3) (κ := 6) hT hK2 (by omega) (by rw [e25]; rcases q5 with e | e <;> rw [e] <;> rfl) (by omega) e159 (by rw [s2]; rcases q5 with e | e <;> rw [e] <;> rfl) rfl (.inl ⟨rfl, rfl, rfl⟩) r3 (by omega) u1 u2 u3 u4 u5 d dm) (fun T' s t h => ⟨h.2.1, ⟨nv (by omega), fun r a1 a2 a3 a4 => ?_⟩, h.2.2.weak (fun z hz => by rw [hz]; exact bo) (fun _ h => h.elim), eqp ⟨fun h => absurd h (by omega), fun h _ => absurd h (by omega), fun h => absurd h (by omega), fun h _ => absurd h (by omega), fun h _ => absurd h (by omega), fun h _ => absurd h (by omega), fun h _ => absurd h (by omega)⟩⟩)
      obtain ⟨e1, _⟩ := uniq r q w a2 z2 a1 hq1 a4 z3
      subst e1
      rw [if_neg (by omega)]; exact h.1
    by_cases q7 : D.K q = 7
    · have ha : ari (D.K q) = 2 := by rw [q7]; rfl
      have hl : (D.kd q).length = 2 := by rw [k6 q3, ha]
      obtain ⟨c, c1, c2, c3, c4, c5, c6, c7⟩ := kq 0 (by omega) (by omega)
      by_cases w0 : w = 0
      · subst w0
        rw [z3] at c1
        have c1 : p = c := Option.some.inj c1
        refine fin (n' := 0) (a' := 0) (plc_box (k := 4) (ρ := 4) (κ := 7) hT hK2 (by omega) (by rw [e25, q7]; rfl) (by omega) e159 (by rw [s2, q7]; rfl) c5 (.inr ⟨rfl, rfl, rfl, by rw [c1]⟩) r3 (by omega) u1 u2 u3 u4 u5 d dm) (fun T' s t h => ⟨h.2.1, ⟨nv (by omega), fun r a1 a2 a3 a4 => ?_⟩, h.2.2.weak (fun z hz => by rw [hz]; exact bo) (fun _ h => h.elim), eqp ⟨fun h => absurd h (by omega), fun _ hw => absurd hw (by decide), fun h => absurd h (by omega), fun h _ => absurd h (by omega), fun h _ => absurd h (by omega), fun h _ => absurd h (by omega), fun h _ => absurd h (by omega)⟩⟩)
        obtain ⟨e1, _⟩ := uniq r q 0 a2 z2 a1 hq1 a4 z3
        subst e1
        rw [if_pos q7]; exact h.1
      · have w1 : w = 1 := by omega
        have hcp := c6 (by omega)
        obtain ⟨x, y, e1, e2, e3, e4, e5, e6⟩ := hS.2.2.1 q c hq1 z2 (.inr (.inr q7)) c1 hcp
        rw [if_pos q7] at e6
        have ec := oT_of e1 (nlt e3)
        exact fin (n' := 0) (a' := 0) (plc_given (k0 := 0) hTa hK2 (by omega) (by rw [e25, q7, w1]; rfl) (by omega) e24 e159 (by rw [s2, q7]; rfl) c5 (inj c (by omega) (by omega)) (by omega) c4 e1 e2 e3 e4 e5 e6 r3 (by omega) u1 u2 u3 u4 u5 d dm) (fun T' s t h => ⟨h.1, ⟨nv (by omega), fun r a1 a2 a3 a4 => nk (by omega) r a1 a2 a3 a4⟩, h.2.1.weak (fun z hz => hz.elim (fun e => by rw [e]; exact bo) (fun e => bk0 c1 (by omega) (ec.trans e.symm))) (fun _ h => h.elim), eqp ⟨fun h => absurd h (by omega), fun _ _ c' hc' => by rw [c1] at hc'; rw [← Option.some.inj hc', ec, eo]; exact h.2.2, fun h => absurd h (by omega), fun h _ => absurd h (by omega), fun h _ => absurd h (by omega), fun h _ => absurd h (by omega), fun h _ => absurd h (by omega)⟩⟩)
    by_cases q8 : 8 ≤ D.K q ∧ D.K q ≤ 15
    · have hm : mKd (D.K q) = 8 := by
        have : ∀ x, x < 16 → 8 ≤ x → mKd x = 8 := by decide
        exact this _ (by omega) (by omega)
      have hr : rol (D.K q) w = 1 := by
        unfold rol
        rw [if_neg q3, if_pos q8]
      exact fin (n' := 0) (a' := 0) (plc_count (κ := 8) hTa hK2 (by omega) (by rw [e25, hr]; rfl) (by omega) e159 (by rw [s2, hm]) rfl (.inl rfl) r3 (by omega) u1 u2 u3 u4 u5 d dm) (fun T' s t h => ⟨h.1, ⟨nv (by omega), fun r a1 a2 a3 a4 => nk (by omega) r a1 a2 a3 a4⟩, h.2.1.weak (fun z hz => hz.elim (fun e => by rw [e]; exact bo) (fun e => by rw [e]; exact .inl rfl)) (fun _ h => h.elim), eqp ⟨fun h => absurd h (by omega), fun h _ => absurd h (by omega), fun _ => by rw [eo]; exact h.2.2, fun h _ => absurd h (by omega), fun h _ => absurd h (by omega), fun h _ => absurd h (by omega), fun h _ => absurd h (by omega)⟩⟩)
    by_cases q16 : D.K q = 16
    · have ha : ari (D.K q) = 2 := by rw [q16]; rfl
      have hl : (D.kd q).length = 2 := by rw [k6 q3, ha]
      obtain ⟨c, c1, c2, c3, c4, c5, c6, c7⟩ := kq 0 (by omega) (by omega)
      by_cases w0 : w = 0
      · subst w0
        rw [z3] at c1
        have c1 : p = c := Option.some.inj c1
        exact fin (n' := 0) (a' := 0) (plc_head hT0 (by omega) (by rw [e25, q16]; rfl) (by omega) e159 (by rw [s2, q16]; rfl) (by rw [c1]; exact c5) u2 (D.lx p) d dm) (fun T' s t h => ⟨h.1, ⟨nv (by omega), fun r a1 a2 a3 a4 => nk (by omega) r a1 a2 a3 a4⟩, by rw [h.2]; exact lsame, eqp ⟨fun h => absurd h (by omega), fun h _ => absurd h (by omega), fun h => absurd h (by omega), fun _ hw => absurd hw (by decide), fun h _ => absurd h (by omega), fun h _ => absurd h (by omega), fun h _ => absurd h (by omega)⟩⟩)
      · have w1 : w = 1 := by omega
        have hcp := c6 (by omega)
        obtain ⟨x, y, e1, e2, e3, e4, e5⟩ := hS.1 c c2 (by omega)
        have ec := oT_of e1 (nlt e3)
        exact fin (n' := 0) (a' := 0) (plc_tail (hT.less (n' := n + 1) (by omega) (Nat.le_refl _) (Nat.le_refl _) (Nat.le_refl _)) hK2 (by omega) (by rw [e25, q16, w1]; rfl) (by omega) e24 e159 (by rw [s2, q16]; rfl) c5 (inj c (by omega) (by omega)) (by omega) c4 e1 e2 e3 e4 e5 r3 (by omega) u1 u2 u3 u4 u5 d dm) (fun T' s t h => ⟨h.1, ⟨nv (by omega), fun r a1 a2 a3 a4 => nk (by omega) r a1 a2 a3 a4⟩, h.2.1.weak (fun z hz => hz.elim (fun e => by rw [e]; exact bo) (fun e => bk0 c1 (by omega) (ec.trans e.symm))) (fun _ h => h.elim), eqp ⟨fun h => absurd h (by omega), fun h _ => absurd h (by omega), fun h => absurd h (by omega), fun _ _ c' hc' => by rw [c1] at hc'; rw [← Option.some.inj hc', ec, eo]; exact h.2.2, fun h _ => absurd h (by omega), fun h _ => absurd h (by omega), fun h _ => absurd h (by omega)⟩⟩)
    by_cases q18 : D.K q = 18 ∨ D.K q = 20 ∧ w ≠ 0
    · have ha : ari (D.K q) = 3 := by rcases q18 with e | ⟨e, _⟩ <;> rw [e] <;> rfl
      have hl : (D.kd q).length = 3 := by rw [k6 q3, ha]
      obtain ⟨c, c1, c2, c3, c4, c5, c6, c7⟩ := kq 0 (by omega) (by omega)
      obtain ⟨b, b1, b2, b3, b4, b5, b6, b7⟩ := kq 1 (by omega) (by omega)
      obtain ⟨e, e1, e2, e3, e4, e5, e6, e7⟩ := kq 2 (by omega) (by omega)
      by_cases w0 : w = 0
      · have qq : D.K q = 18 := by omega
        subst w0
        rw [z3] at c1
        have c1 : p = c := Option.some.inj c1
        exact fin (n' := 0) (a' := 0) (plc_count (κ := 11) hTa hK2 (by omega) (by rw [e25, qq]; rfl) (by omega) e159 (by rw [s2, qq]; rfl) c5 (.inr ⟨rfl, by rw [c1]⟩) r3 (by omega) u1 u2 u3 u4 u5 d dm) (fun T' s t h => ⟨h.1, ⟨nv (by omega), fun r a1 a2 a3 a4 => nk (by omega) r a1 a2 a3 a4⟩, h.2.1.weak (fun z hz => hz.elim (fun e => by rw [e]; exact bo) (fun e => by rw [e]; exact .inl rfl)) (fun _ h => h.elim), eqp ⟨fun h => absurd h (by omega), fun h _ => absurd h (by omega), fun _ => by rw [eo]; exact h.2.2, fun h _ => absurd h (by omega), fun _ hw => absurd hw (by decide), fun h _ => absurd h (by omega), fun h _ => absurd h (by omega)⟩⟩)
      · have nc : c ≠ p := fun k => by have := c7 k; omega
        by_cases w1 : w = 1
        · have ne : e ≠ p := fun k => by have := e7 k; omega
          refine fin (n' := 0) (a' := 0) (plc_mid (κ := mKd (D.K q)) hT0 (by omega) (by rw [e25, w1]; rcases q18 with k | ⟨k, _⟩ <;> rw [k] <;> rfl) (by omega) e159 (by rcases q18 with k | ⟨k, _⟩ <;> rw [k] <;> decide) s2 c5 (inj c (by omega) nc) e5 (inj e (by omega) ne) u2 (D.lx p) d dm) (fun T' s t h => ⟨h.1, ⟨nv (by omega), fun r a1 a2 a3 a4 => nk (by omega) r a1 a2 a3 a4⟩, by rw [h.2]; exact lsame, eqp ⟨fun h => absurd h (by omega), fun h _ => absurd h (by omega), fun h => absurd h (by omega), fun h _ => absurd h (by omega), fun _ hw => absurd hw (by omega), fun h _ => absurd h (by omega), fun _ hw => absurd hw (by omega)⟩⟩)
        · have w2 : w = 2 := by omega
          subst w2
          rw [z3] at e1
          have e1 : p = e := Option.some.inj e1
          have hbp := b6 (by omega)
          obtain ⟨x, y, f1, f2, f3, f4, f5⟩ := hS.1 b b2 (by omega)
          refine fin (n' := 0) (a' := 0) (plc_else (κ := mKd (D.K q)) (ρ := rol (D.K q) 2) hTa hK2 (by omega) e25 (by omega) e24 e159 s2 (by rcases q18 with k | ⟨k, _⟩ <;> rw [k] <;> decide) c5 (inj c (by omega) nc) (by rw [e1]; exact e5) (by omega) b4 b5 f1 f2 r3 (by omega) u1 u2 u3 f3 u4 f4 u5 f5 d dm) (fun T' s t h => ⟨h.1, ⟨nv (by omega), fun r a1 a2 a3 a4 => nk (by omega) r a1 a2 a3 a4⟩, h.2.1.weak (fun z hz => hz.elim (fun e => by rw [e]; exact bo) (fun e => bk0 b1 (by omega) ((oT_of f1 (nlt f3)).trans e.symm))) (fun _ h => h.elim), eqp ⟨fun h => absurd h (by omega), fun h _ => absurd h (by omega), fun h => absurd h (by omega), fun h _ => absurd h (by omega), fun _ _ b' hb' => by rw [b1] at hb'; rw [← Option.some.inj hb', oT_of f1 (nlt f3), eo]; exact h.2.2, fun h _ => absurd h (by omega), fun _ hw => absurd hw (by decide)⟩⟩)
    by_cases q19 : D.K q = 19
    · have ha : ari (D.K q) = 2 := by rw [q19]; rfl
      have hl : (D.kd q).length = 2 := by rw [k6 q3, ha]
      obtain ⟨c, c1, c2, c3, c4, c5, c6, c7⟩ := kq 0 (by omega) (by omega)
      have e27 := g5 (.inr (.inr (.inl q19)))
      have hbd : D.bd q = [D.vl q] := by unfold pgD.bd; rw [if_neg q17, if_pos q19]
      have hvl := k11 (D.vl q) (by rw [hbd]; exact List.mem_cons_self)
      by_cases w0 : w = 0
      · subst w0
        rw [z3] at c1
        have c1 : p = c := Option.some.inj c1
        rcases plc_bound (L := L) (xs := xs) hT0 (by omega) (by rw [e25, q19]; rfl) (by omega) e24 e159 (by rw [s2, q19]; rfl) (by rw [c1]; exact c5) (by omega) e27.1 e27.2 u1 u2 (D.lx p) d dm with ⟨s0, t0, o1, o2, o3, o4, o5⟩ | ⟨sv, tv, Tv, o1, o2, o3, o4, o5, o6, o7, o8, o9⟩
        · exact .inl ⟨s0, t0, o1, o2, o3, o4.sub rfl rfl rfl, o5.sub rfl rfl⟩
        · subst o7; subst o8
          have ev : vT (wr σ 67 (D.vl q) (i32 (x1 : Int))) (D.vl q) = x1 := vT_of (wr_self _ _ _ _) (nlt u3)
          have eo2 : oT (wr σ 67 (D.vl q) (i32 (x1 : Int))) p = x1 := by unfold oT; rw [wr_nek (by omega)]; exact eo
          refine .inr ⟨_, _, Tv, pd, rc, o1, o2, ?_, o5, o6.sub rfl rfl, ?_, ?_, fun v hv => wr_nei (fun e => tvd.new hPf hq1 z2 z3 (.inl q19) (by rw [hbd, e]; exact List.mem_cons_self) hv), o4, ⟨fun i _ => ⟨wr_nek (by decide), wr_nek (by decide)⟩, fun v hv => wr_nei (by omega), fun g _ => wr_nek (by decide), by rw [wr_nek (by decide)]; exact Int.le_refl _, fun i _ => wr_nek (by decide), fun i _ => wr_nek (by decide)⟩, ⟨fun i _ => ⟨o6.rd (j := 178) rfl i, o6.rd (j := 181) rfl i⟩, fun v hv => wr_nei (by omega), fun g _ => o6.rd (j := 180) rfl g, by rw [o6.2 82 rfl]; exact Int.le_refl _, fun i _ => o6.rd (j := 182) rfl i⟩⟩
          rotate_left
          · rw [o9]
            refine LOC.same rfl hz0 (fun P _ _ p3 z hz => ?_)
            obtain ⟨q', v, b1, b2, b3, b4, b5, b6⟩ := hz
            have e := hPf.par1 b1 b2 hq1 z2 b4 z3
            rw [e, hbd] at b5
            rw [b6, List.mem_singleton.mp b5, ev]
            exact p3 _ bo
          · exact eqp ⟨fun h => absurd h (by omega), fun h _ => absurd h (by omega), fun h => absurd h (by omega), fun h _ => absurd h (by omega), fun h _ => absurd h (by omega), fun _ _ => ev.trans eo2.symm, fun h _ => absurd h (by omega)⟩
          have h66 : ∀ j, j ≠ 67 → ∀ i, rd (wr σ 67 (D.vl q) (i32 (x1 : Int))) j i = rd σ j i := fun j hj i => wr_nek hj
          have h178 : ∀ j, j ≠ 179 → ∀ i, rd (wr τ 179 (D.vl q) (i32 (y1 : Int))) j i = rd τ j i := fun j hj i => wr_nek hj
          have off : ∀ (S : List Nat) (k : Nat), inL S k = false → ∀ j, inL S j = true → j ≠ k := fun S k h0 j hj e => by rw [e, h0] at hj; cases hj
          have key : ∀ v, v = D.vl q ∨ mat Bc Bm T (rd σ 67 v) (rd τ 179 v) → mat Bc Bm Tv (rd (wr σ 67 (D.vl q) (i32 (x1 : Int))) 67 v) (rd (wr τ 179 (D.vl q) (i32 (y1 : Int))) 179 v) := fun v hv => by
            by_cases e : v = D.vl q
            · rw [e, wr_self, wr_self]; exact ⟨x1, y1, rfl, rfl, o4.1 _ _ u3, u4, u5⟩
            · rw [wr_nei e, wr_nei e]; exact (hv.resolve_left e).ex o4
          have hS' := hS.ex o4
          refine TYI.next ⟨o3, hR.to (fun j hj i => h66 j (off prC 67 rfl j hj) i) (fun j hj i => h178 j (off prM 179 rfl j hj) i), (hO.ex o4).to hV (fun j hj i => h66 j (off _ 67 rfl j hj) i) (fun v hv => wr_nei (by omega)) rfl (fun j hj i => h178 j (off _ 179 rfl j hj) i) (fun v hv => wr_nei (by omega)), ⟨Nk, ce, Nm, cm, (hC.ex hO hT.2.1.2.2.1 o4).to (h66 65 (by omega) 9) (fun i => h66 69 (by omega) i) (fun i => h66 70 (by omega) i) rfl (h178 123 (by omega) 82) (fun i => h178 181 (by omega) i) (fun i => h178 182 (by omega) i)⟩, ?_⟩ (fun r a1 a2 a3 a4 v hv => ?_) (fun r a1 a2 a3 a4 => nk (by omega) r a1 a2 a3 a4)
          · refine ⟨fun q' b1 b2 => ?_, fun v hv => key v (.inr (hS.2.1 v hv)), fun r c' b1 b2 b3 b4 b5 => ?_, ?_⟩
            · rw [h66 66 (by omega), h178 178 (by omega)]; exact hS'.1 q' b1 b2
            · rw [h66 66 (by omega), h178 178 (by omega)]; exact hS'.2.2.1 r c' b1 b2 b3 b4 b5
            · rw [h66 68 (by omega), h178 180 (by omega)]; exact hS'.2.2.2
          · obtain ⟨e1, _⟩ := uniq r q 0 a2 z2 a1 hq1 a4 z3
            subst e1
            rw [hbd] at hv
            exact key v (.inl (List.mem_singleton.mp hv))
      · have w1 : w = 1 := by omega
        have nc : c ≠ p := fun k => by have := c7 k; omega
        have hcp := c6 (by omega)
        obtain ⟨x, y, e1, e2, e3, e4, e5⟩ := hS.2.1 (D.vl q) (.inr (.inr ⟨q, c, hq1, z2, .inl q19, c1, hcp, by rw [hbd]; exact List.mem_cons_self⟩))
        exact fin (n' := 0) (a' := 0) (plc_in (v := D.vl q) hT0 (by omega) (by rw [e25, q19, w1]; rfl) (by omega) e159 (by rw [s2, q19]; rfl) c5 (inj c (by omega) nc) (by omega) e27.2 e2 u2 (D.lx p) d dm) (fun T' s t h => ⟨⟨fun i => by rw [h.1], h.2.1⟩, ⟨nv (by omega), fun r a1 a2 a3 a4 => nk (by omega) r a1 a2 a3 a4⟩, by rw [h.2.2]; exact lsame, eqp ⟨fun h => absurd h (by omega), fun h _ => absurd h (by omega), fun h => absurd h (by omega), fun h _ => absurd h (by omega), fun h _ => absurd h (by omega), fun _ hw => absurd hw (by omega), fun h _ => absurd h (by omega)⟩⟩)
    · -- a case, cased
      have q012 : ¬ D.K q ≤ 2 := fun h => by
        have e := k6 q3
        have h0 : ∀ x, x < 3 → ari x = 0 := by decide
        rw [h0 _ (by omega)] at e
        omega
      have q20 : D.K q = 20 := by omega
      have w0 : w = 0 := by omega
      subst w0
      have ha : ari (D.K q) = 3 := by rw [q20]; rfl
      obtain ⟨c, c1, c2, c3, c4, c5, c6, c7⟩ := kq 0 (by omega) (by omega)
      rw [z3] at c1
      have c1 : p = c := Option.some.inj c1
      have e27 := g5 (.inr (.inr (.inr q20)))
      have hbd : D.bd q = [D.vl q, D.vl q + 1] := by unfold pgD.bd; rw [if_neg q17, if_neg q19, if_pos q20]
      have hvl := k11 (D.vl q) (by rw [hbd]; exact List.mem_cons_self)
      have hvl1 := k11 (D.vl q + 1) (by rw [hbd]; exact List.mem_cons_of_mem _ List.mem_cons_self)
      rcases plc_cased (L := L) (xs := xs) (hT.less (n' := n + 2) (by omega) (Nat.le_refl _) (Nat.le_refl _) (Nat.le_refl _)) hK2 (by omega) (by rw [e25, q20]; rfl) (by omega) e24 e159 (by rw [s2, q20]; rfl) (by rw [c1]; exact c5) (by omega) e27.1 e27.2 r3 (by omega) u1 u2 u3 u4 u5 d dm with ⟨s0, t0, o1, o2, o3, o4, o5⟩ | ⟨sv, tv, Tv, o1, o2, o3, o4, o5, o6, e, e', g, g', y1', y2', y3, y4, y5, y6, y7, y8, y9, y10, y11, y12, y13, y14⟩
      · exact .inl ⟨s0, t0, o1, o2, o3, o4.sub rfl rfl rfl, o5.sub rfl rfl⟩
      · have ne : ∀ {z y : Nat}, Tv.2.2 z y → z < 2147483648 := fun {z y} hz => by
          have := (o3.1.2.2.2.2.1 _ _ hz).1
          have : z < yN Tv := this
          have := o3.c0.2.2.2.2.2.2
          omega
        have ev := vT_of y7 (ne y1')
        have ev2 := vT_of y8 (ne y2')
        have eo2 : oT sv p = x1 := by unfold oT; rw [o5.rd (j := 66) rfl]; exact eo
        refine .inr ⟨sv, tv, Tv, pd, rc, o1, o2, ?_, o5, o6.sub rfl rfl, y12.weak (fun z hz => by rw [hz]; exact bo) (fun z hz => ?_), eqp ⟨fun h => absurd h (by omega), fun h _ => absurd h (by omega), fun h => absurd h (by omega), fun h _ => absurd h (by omega), fun _ hw => absurd hw (by decide), fun h _ => absurd h (by omega), fun _ _ => by rw [eo2, ev, ev2]; exact ⟨y13, y14⟩⟩, fun v hv => (y11 v (fun e => tvd.new hPf hq1 z2 z3 (.inr q20) (by rw [hbd, e]; exact List.mem_cons_self) hv) (fun e => tvd.new hPf hq1 z2 z3 (.inr q20) (by rw [hbd, e]; exact List.mem_cons_of_mem _ List.mem_cons_self) hv)).1, o4, ⟨fun i _ => ⟨o5.rd (j := 66) rfl i, o5.rd (j := 69) rfl i⟩, fun v hv => (y11 v (by omega) (by omega)).1, fun g _ => o5.rd (j := 68) rfl g, by rw [o5.rd (j := 65) rfl]; exact Int.le_refl _, fun i _ => o5.rd (j := 70) rfl i, fun i _ => o5.rd (j := 65) rfl i⟩, ⟨fun i _ => ⟨o6.rd (j := 178) rfl i, o6.rd (j := 181) rfl i⟩, fun v hv => (y11 v (by omega) (by omega)).2, fun g _ => o6.rd (j := 180) rfl g, by rw [o6.2 82 rfl]; exact Int.le_refl _, fun i _ => o6.rd (j := 182) rfl i⟩⟩
        rotate_left
        · obtain ⟨q', v, b1, b2, b3, b4, b5, b6⟩ := hz
          have e := hPf.par1 b1 b2 hq1 z2 b4 z3
          rw [e, hbd] at b5
          rcases List.mem_cons.mp b5 with k | k
          · left; rw [b6, k, ev]
          · right; rw [b6, List.mem_singleton.mp k, ev2]
        have key : ∀ v, (v = D.vl q ∨ v = D.vl q + 1) ∨ mat Bc Bm T (rd σ 67 v) (rd τ 179 v) → mat Bc Bm Tv (rd sv 67 v) (rd tv 179 v) := fun v hv => by
          by_cases e1 : v = D.vl q
          · rw [e1, y7, y9]; exact ⟨e, e', rfl, rfl, y1', y3, y4⟩
          · by_cases e2 : v = D.vl q + 1
            · rw [e2, y8, y10]; exact ⟨g, g', rfl, rfl, y2', y5, y6⟩
            · rw [(y11 v e1 e2).1, (y11 v e1 e2).2]; exact (hv.resolve_left (by omega)).ex o4
        have hS' := hS.ex o4
        refine TYI.next ⟨o3, hR.fr o5 o6 rfl rfl, (hO.ex o4).to hV (fun j hj i => o5.rd (j := j) (inL_off rfl j hj) i) (fun v hv => (y11 v (by omega) (by omega)).1) (o5.1.2.2 73 rfl).1 (fun j hj i => o6.rd (j := j) (inL_off rfl j hj) i) (fun v hv => (y11 v (by omega) (by omega)).2), ⟨Nk, ce, Nm, cm, (hC.ex hO hT.2.1.2.2.1 o4).to (o5.rd (j := 65) rfl 9) (fun i => o5.rd (j := 69) rfl i) (fun i => o5.rd (j := 70) rfl i) (o5.1.2.2 70 rfl).1 (o6.2 82 rfl) (fun i => o6.rd (j := 181) rfl i) (fun i => o6.rd (j := 182) rfl i)⟩, ?_⟩ (fun r a1 a2 a3 a4 v hv => ?_) (fun r a1 a2 a3 a4 => nk (by omega) r a1 a2 a3 a4)
        · refine ⟨fun q' b1 b2 => ?_, fun v hv => key v (.inr (hS.2.1 v hv)), fun r c' b1 b2 b3 b4 b5 => ?_, ?_⟩
          · rw [o5.rd (j := 66) rfl, o6.rd (j := 178) rfl]; exact hS'.1 q' b1 b2
          · rw [o5.rd (j := 66) rfl, o6.rd (j := 178) rfl]; exact hS'.2.2.1 r c' b1 b2 b3 b4 b5
          · rw [o5.rd (j := 68) rfl, o6.rd (j := 180) rfl]; exact hS'.2.2.2
        · obtain ⟨e1, _⟩ := uniq r q 0 a2 z2 a1 hq1 a4 z3
          subst e1
          rw [hbd] at hv
          refine key v (.inl ?_)
          rcases List.mem_cons.mp hv with k | k
          · exact .inl k
          · exact .inr (List.mem_singleton.mp k)
  · -- the whole
    have ep : p = D.bP (f + 1) - 1 := by omega
    have hfr := hR.1 f hf
    have e24 : rd σ 24 p = i32 (-1) := by rw [ep]; exact hfr.2.2.1
    have e25 : rd σ 25 p = i32 11 := by rw [ep]; exact hfr.2.2.2
    obtain ⟨x2, y2, v1, v2, v3, v4, v5⟩ := hS.2.2.2
    have none : ∀ r : Nat, r < D.bP (f + 1) → ¬ (D.kd r)[0]? = some p := fun r hr h0 => by
      have := ((hR.2 r (by omega)).2.2.2.1 0 p h0).1
      have := (i32_inj (by omega) (by omega) (by omega) (by omega)).mp (this.symm.trans e24)
      omega
    have noneW : ∀ r w : Nat, D.bP f ≤ r → r < D.bP (f + 1) → ¬ (D.kd r)[w]? = some p := fun r w _ hr h0 => by
      have := ((hR.2 r (by omega)).2.2.2.1 w p h0).1
      have := (i32_inj (by omega) (by omega) (by omega) (by omega)).mp (this.symm.trans e24)
      omega
    exact fin (n' := 0) (a' := 0) (plc_whole hTa hK2 (by omega) (by omega) e25 (r7.trans e24) r3 (by omega) u1 u2 v1 v2 u3 v3 u4 v4 u5 v5 d dm) (fun T' s t h => ⟨h.1, ⟨fun r a1 a2 _ => none r a2, fun r a1 a2 _ a4 => absurd a4 (none r a2)⟩, h.2.1.weak (fun z hz => hz.elim (fun e => .inr (.inl (e.trans eo.symm))) (fun e => .inr (.inr (.inl ⟨by omega, e.trans (rT_of v1 (nlt v3)).symm⟩)))) (fun _ h => h.elim), fun _ => by rw [eo, rT_of v1 (nlt v3)]; exact h.2.2, fun q' w' r1 r2 hq' => absurd hq' (noneW q' w' r1 r2)⟩)
end PLACEALL
/-! TYPING: the sides and the equations, step by step -/
section GHOST
variable {L : Nat} {xs : Nat → Int32} {σ σ' σ1 τ τ' : tvS}
variable {K1 K2 Bc Bm f : Nat} {Rc Rm : Nat → Nat → Prop} {pd pd' : List (Nat × List Nat × (Nat → Nat))} {n u a rc rc' : Nat} {T T' T1 T0 : tyJ} {D : pgD} {G : sgD} {m : Nat}
theorem CAL.ct2 {rl Nk Nm q i : Nat} {ce cm : Nat → Nat} (hC : CAL D G f Bc Bm rl pd rc T Nk ce Nm cm σ τ) (hT : TJ K1 K2 Bc Bm f Rc Rm pd n u a rc T σ τ) (h1 : D.bP f ≤ q) (h2 : q < D.bP (f + 1)) (h3 : D.K q = 3) (h4 : D.vl q < f) (hi : i < D.cn G q) : ∃ n0 : Nat, rd σ 69 q = i32 (n0 : Int) ∧ n0 + D.cn G q ≤ Nk ∧ cT σ q i = ce (n0 + i) ∧ ce (n0 + i) < yN T := by
  obtain ⟨a1, a2, a3, a4, a5, a6⟩ := hC
  obtain ⟨n0, b1, b2, b3, b4⟩ := a6 q h1 h2 h3 h4
  have z := hT.c0
  have hN : ce (n0 + i) < yN T := by
    rcases b4 with ⟨c1, SL, im, c2, c3⟩ | ⟨n1, c1, c2, c3⟩
    · rcases c3 i hi with ⟨d1, d2⟩ | ⟨d1, d2, d3⟩
      · have e0 := (z.2.2.2.2.2.1 _).mp d1
        rw [d2, e0]
        have := hT.2.1.1; have := hT.2.1.2.1
        show 0 < T.1.1; omega
      · rw [d3]
        exact ((hT.2.2.2.1.1 _ c2).2 _ d2).2.2.2.1
    · exact (hT.1.2.2.2.2.1 _ _ (c3 i hi).1).1
  refine ⟨n0, b1, b2, ?_, hN⟩
  have e0 : ix (rd σ 69 q) = n0 := by rw [b1, i32_ixn (by have := a1.2.1; omega)]
  have := z.2.2.2.2.2.2
  unfold cT
  rw [e0, a1.2.2 _ (by omega), i32_ixn (by omega)]
theorem mat.lt {x y : Int32} (h : mat Bc Bm T x y) (hT : TJ K1 K2 Bc Bm f Rc Rm pd n u a rc T σ τ) : ix x < yN T := by
  obtain ⟨p, q, h1, h2, h3, h4, h5⟩ := h
  have k : p < yN T := (hT.1.2.2.2.2.1 _ _ h3).1
  have := hT.c0.2.2.2.2.2.2
  rw [h1, i32_ixn (by omega)]; exact k
theorem TYI.b {rl s t : Nat} (h : TYI K1 K2 Bc Bm f Rc Rm D G rl s t n u a pd rc T σ τ) : ITb D G f s t (D.bP (f + 1)) T σ := by
  obtain ⟨hT, hR, hO, ⟨Nk, ce, Nm, cm, hC⟩, hS⟩ := h
  refine ⟨fun q h1 h2 => (hS.1 q h1 h2).lt hT, fun v hv => (hS.2.1 v hv).lt hT, fun q i h1 h2 h3 h4 hi => ?_⟩
  obtain ⟨n0, _, _, e, e2⟩ := hC.ct2 hT h1 h2 h3 h4 hi
  rw [e]; exact e2
theorem okn.up {p1 q a w x : Nat} {X : Nat → Prop} {tg : Nat → Nat} (hF : PFf D m f) (h2 : D.bP f ≤ p1) (h3 : p1 < D.bP (f + 1)) (q1 : D.bP f ≤ q) (q2 : q < D.bP (f + 1)) (hq : (D.kd q)[w]? = some a) (hX : a = p1 → X x) (h : okn D p1 X tg a x) : okn D p1 X tg q x := by
  by_cases e : a = p1
  · exact .inl (hX e)
  · exact h.elim .inl (fun k => .inr (k.trans ⟨fun z => spn.par hF p1 p1 a q w (Nat.le_refl _) h2 h3 q1 q2 hq z e, fun z => spn.kid hF h2 h3 q1 q2 hq z⟩))
theorem okn.var {s t k p1 p v : Nat} {X : Nat → Prop} {tg : Nat → Nat} (hF : PFf D m f) (h2 : D.bP f ≤ p1) (h3 : p1 < D.bP (f + 1)) (q1 : D.bP f ≤ p) (q2 : p < D.bP (f + 1)) (hc : ITc D f s t T σ p1 X) (hI : ITI D G f s t k T σ tg p1 X) (hv : v ∈ D.sl p) (hd : tvd D f t v) : okn D p1 X tg p (vT σ v) := by
  have key : ∀ r, D.bP f ≤ r → r < D.bP (f + 1) → v ∈ D.bd r → okn D p1 X tg p (vT σ v) := fun r r1 r2 hr => by
    by_cases e : spn D p1 r
    · have sp := hF.scB r1 r2 hr (D.bP (f + 1)) p (by omega) q1 q2 hv
      have e2 := spn.st hF p1 p1 r (Nat.le_refl _) h2 h3 e
      have : spn D p1 p := ⟨by have := sp.1; omega, by have := sp.2; have := e.2; omega⟩
      exact (hI.2.2.2.2.1 r v r1 r2 hr hd).elim .inl (fun k => .inr (k.trans ⟨fun _ => this, fun _ => e⟩))
    · by_cases e2 : spn D p1 p
      · exact .inl (hc.2.2.2.2.1 v (hF.scIn h2 h3 r1 r2 hr e p1 p (by omega) e2 hv) hd)
      · exact (hI.2.2.2.2.1 r v r1 r2 hr hd).elim .inl (fun k => .inr (k.trans ⟨fun z => absurd z e, fun z => absurd z e2⟩))
  rcases id hd with ⟨d1, d2⟩ | ⟨h, d1, d2, d3⟩ | ⟨r, c, d1, d2, d3, d4, d5, d6⟩
  · exact .inl (hc.2.2.2.2.1 v (hF.scP d1 d2 (D.bP (f + 1)) p1 (by omega) h2 h3) hd)
  · obtain ⟨p', p1', p2', p3, p4⟩ := hF.2.2.2.2.1 h d1 d2
    exact key p' p1' p2' (by unfold pgD.bd; rw [if_pos p3, p4, d3]; exact List.mem_cons_self)
  · exact key r d1 d2 d6
theorem GHO.own {rl p x : Nat} (hI : TYI K1 K2 Bc Bm f Rc Rm D G rl p p n u a pd rc T σ τ) (hF : PFf D m f) (hg : GHO D G f p p T0 T σ) (hp1 : D.bP f ≤ p) (hp2 : p < D.bP (f + 1)) {n' u' a' : Nat} (hT1 : TJ K1 K2 Bc Bm f Rc Rm pd' n' u' a' rc' T1 σ' τ') (hL : LOC T T1 (BSo D G f p σ) (fun b => b = x)) (hE : EQx D f T1 σ p x) (hx : x < 2000000) (w : frT gro8 gro8 [8] σ σ1) : GHO D G f (p + 1) p T0 T1 (wr σ1 66 p (i32 (x : Int))) := by
  have hb := hI.b
  obtain ⟨hT, hR, hO, ⟨Nk, ce, Nm, cm, hC⟩, hS⟩ := hI
  obtain ⟨⟨tg, hi⟩, g2, g3, g4⟩ := hg
  have z := hT.c0
  have z1 := hT1.c0
  have k67 : ∀ v, vT (wr σ1 66 p (i32 (x : Int))) v = vT σ v := fun v => by unfold vT; rw [wr_nek (by omega), w.rd (j := 67) rfl]
  have k66 : ∀ q, q ≠ p → oT (wr σ1 66 p (i32 (x : Int))) q = oT σ q := fun q hq => by unfold oT; rw [wr_nei hq, w.rd (j := 66) rfl]
  have k66p : oT (wr σ1 66 p (i32 (x : Int))) p = x := oT_of (wr_self _ _ _ _) (by omega)
  have k68 : rT (wr σ1 66 p (i32 (x : Int))) f = rT σ f := by unfold rT; rw [wr_nek (by omega), w.rd (j := 68) rfl]
  have k70 : ∀ q i, cT (wr σ1 66 p (i32 (x : Int))) q i = cT σ q i := fun q i => by unfold cT; rw [wr_nek (by omega), wr_nek (by omega), w.rd (j := 69) rfl, w.rd (j := 70) rfl]
  have hPp := hF.2.2.1 p hp1 hp2
  have sct : ∀ v, v ∈ D.sl p → tvd D f p v := fun v hv => (scp_typed hF (D.bP (f + 1)) p (by omega) hp1 hp2 v hv).mono hPp.1.2.2.2
  have kdlt : ∀ {q w c : Nat}, D.bP f ≤ q → q < D.bP (f + 1) → (D.kd q)[w]? = some c → D.bP f ≤ c ∧ c < q := fun {q w c} h1 h2 hc => by
    have hq := hF.2.2.1 q h1 h2
    have := contN.at _ _ _ _ _ hq.2.1 hc
    have := hq.1.2.2.1
    omega
  refine ⟨⟨fun x => if x < yN T then tg x else p, ITP.go (q := p) hi hb hL z.1 z.2.1 z.2.2.2.1 z.2.2.2.2.1 z1.2.2.1 (fun x hx => (z1.1 x hx).2) (Nat.le_succ _) (Nat.le_refl _) (fun q _ hq => k66 q (by omega)) (fun v _ => k67 v) k68 (fun q i _ _ _ _ _ => k70 q i) (fun p1 X b1 b2 hc hco I y hy => ?_) (fun q _ h1 h2 => ?_) (fun r v _ _ _ hd => .inl hd) (fun q i h1 h2 h3 => by omega)⟩, fun q h1 h2 => ?_, fun q h1 h2 => ?_, fun q h1 h2 h3 h4 => ?_⟩
  · rcases hy with e | ⟨w', c, c1, c2⟩ | ⟨e1, e2⟩ | ⟨e1, e2⟩ | e | ⟨e1, e2, i, e3, e4⟩
    · rw [e]
      exact ⟨by have := hT.2.1.1; have := hT.2.1.2.1; show 0 < T.1.1; omega, .inl hco.2.2.1⟩
    · obtain ⟨l1, l2⟩ := kdlt hp1 hp2 c1
      rw [c2]
      exact ⟨hb.1 c l1 l2, okn.up hF b1 b2 hp1 hp2 c1 (fun e => by rw [e]; exact hco.2.2.2.1 (by omega)) (I.2.2.2.1 c l1 l2)⟩
    · rw [e2]
      exact ⟨hb.2.1 _ (sct _ (hPp.2.2.2.2.1 e1)), okn.var hF b1 b2 hp1 hp2 hco I (hPp.2.2.2.2.1 e1) (sct _ (hPp.2.2.2.2.1 e1))⟩
    · rw [e2]
      have hd : tvd D f p (D.gv (D.vl p)) := .inr (.inl ⟨_, (hPp.2.2.2.2.2.2.1 e1).1, (hPp.2.2.2.2.2.2.1 e1).2, rfl⟩)
      exact ⟨hb.2.1 _ hd, I.2.2.2.2.1 p _ hp1 hp2 (by unfold pgD.bd; rw [if_pos e1]; exact List.mem_cons_self) hd⟩
    · rw [e]
      exact ⟨hS.2.2.2.lt hT, .inl hco.2.2.2.2.2⟩
    · rw [e4]
      exact ⟨hb.2.2 p i hp1 hp2 e1 e2 e3, I.2.2.2.2.2 p i hp1 hp2 e1 e2 e3⟩
  · have e : q = p := by omega
    rw [e]
    exact ⟨rfl, k66p⟩
  · by_cases e : q = p
    · rw [e, k66p]
      exact hE.to (fun w' c hc => k66 c (by have := kdlt hp1 hp2 hc; omega)) (fun _ => k67 _) (fun _ => k67 _) k68 (fun _ _ => k70 _ _)
    · rw [k66 q e]
      exact ((g2 q h1 (by omega)).ex hL (fun x hx => (z.1 x hx).2) z.2.2.1 z1.2.2.1).to (fun w' c hc => k66 c (by have := kdlt h1 (by omega) hc; omega)) (fun _ => k67 _) (fun _ => k67 _) k68 (fun _ _ => k70 _ _)
  · refine ((g3 q h1 h2).ex hL (fun x hx => (z.1 x hx).2) z.2.2.1 z1.2.2.1).to (k66 q (by omega)) (fun r w' c _ _ _ hc => k66 c (by omega)) (fun r w' w'' c r1 r2 hr hc hlt => ?_) (fun v _ => k67 v) (fun r w' r1 r2 hr hk hv => ?_) k68 (fun r w' _ _ _ _ _ => k70 _ _)
    · have := (contN.at _ _ _ _ _ (hF.2.2.1 r r1 r2).2.1 hr).2.2.2 w'' c hlt hc
      have := (contN.at _ _ _ _ _ (hF.2.2.1 r r1 r2).2.1 hr).2.1
      omega
    · have := ((hF.2.2.1 r r1 r2).2.2.2.1 hk).2.2.2
      rw [hv] at this
      rw [← this]
      exact (List.getElem?_eq_some_iff.mp hr).1
  · obtain ⟨SL, im, a1, a2⟩ := g4 q h1 h2 h3 h4
    exact ⟨SL, im, a1.ex hL (fun x hx => (z.1 x hx).2) z.2.2.1 z1.2.2.1, fun i hi => by rw [k70]; exact a2 i hi⟩
theorem GHO.place {rl p : Nat} (hI : TYI K1 K2 Bc Bm f Rc Rm D G rl (p + 1) p n u a pd rc T σ τ) (hF : PFf D m f) (hg : GHO D G f (p + 1) p T0 T σ) (hp1 : D.bP f ≤ p) (hp2 : p < D.bP (f + 1)) {n' u' a' : Nat} (hT1 : TJ K1 K2 Bc Bm f Rc Rm pd' n' u' a' rc' T1 σ1 τ') (hL : LOC T T1 (BSp D G f p σ) (BSv D f p σ1)) (hE : EQp D f T1 σ1 p) (hst : ∀ v, tvd D f p v → rd σ1 67 v = rd σ 67 v) (w : frT (67 :: FCW) FTW [8, 12, 14] σ σ1) : GHO D G f (p + 1) (p + 1) T0 T1 σ1 := by
  have hb := hI.b
  obtain ⟨hT, hR, hO, ⟨Nk, ce, Nm, cm, hC⟩, hS⟩ := hI
  obtain ⟨⟨tg, hi⟩, g2, g3, g4⟩ := hg
  have z := hT.c0
  have z1 := hT1.c0
  have k67 : ∀ v, tvd D f p v → vT σ1 v = vT σ v := fun v hv => by unfold vT; rw [hst v hv]
  have k66 : ∀ q, oT σ1 q = oT σ q := fun q => by unfold oT; rw [w.rd (j := 66) rfl]
  have k68 : rT σ1 f = rT σ f := by unfold rT; rw [w.rd (j := 68) rfl]
  have k70 : ∀ q i, cT σ1 q i = cT σ q i := fun q i => by unfold cT; rw [w.rd (j := 69) rfl, w.rd (j := 70) rfl]
  have kdlt : ∀ {q w c : Nat}, D.bP f ≤ q → q < D.bP (f + 1) → (D.kd q)[w]? = some c → D.bP f ≤ c ∧ c < q := fun {q w c} h1 h2 hc => by
    have hq := hF.2.2.1 q h1 h2
    have := contN.at _ _ _ _ _ hq.2.1 hc
    have := hq.1.2.2.1
    omega
  have hN0 : 0 < yN T := by have := hT.2.1.1; have := hT.2.1.2.1; show 0 < T.1.1; omega
  have hr0 : rT σ f < yN T := hS.2.2.2.lt hT
  obtain ⟨q0, hq1, hq2, hq0, hup⟩ : ∃ q0, D.bP f ≤ q0 ∧ q0 < D.bP (f + 1) ∧ (∀ r w : Nat, D.bP f ≤ r → r < D.bP (f + 1) → (D.kd r)[w]? = some p → r = q0) ∧ (∀ (p1 : Nat) (X : Nat → Prop) (x : Nat), D.bP f ≤ p1 → p1 < D.bP (f + 1) → (p = p1 → X x) → okn D p1 X tg p x → okn D p1 X tg q0 x) := by
    by_cases e : p + 1 < D.bP (f + 1)
    · obtain ⟨q, w', a1, a2, a3⟩ := hF.2.2.2.1 p hp1 e
      exact ⟨q, by omega, a2, fun r w'' r1 r2 hr => hF.par1 r1 r2 (by omega) a2 hr a3, fun p1 X x b1 b2 hX k => okn.up hF b1 b2 (by omega) a2 a3 hX k⟩
    · exact ⟨p, hp1, hp2, fun r w'' r1 r2 hr => by have := kdlt r1 r2 hr; omega, fun _ _ _ _ _ _ k => k⟩
  have ex1 : ∀ q, D.bP f ≤ q → q < p + 1 → EQx D f T1 σ1 q (oT σ1 q) := fun q h1 h2 => by
    rw [k66 q]
    have hPq := hF.2.2.1 q h1 (by omega)
    exact ((g2 q h1 h2).ex hL (fun x hx => (z.1 x hx).2) z.2.2.1 z1.2.2.1).to (fun w' c hc => k66 c) (fun k => k67 _ ((scp_typed hF (D.bP (f + 1)) q (by omega) h1 (by omega) _ (hPq.2.2.2.2.1 k)).mono (by have := hPq.1.2.2.2; omega))) (fun k => k67 _ (.inr (.inl ⟨_, (hPq.2.2.2.2.2.2.1 k).1, (hPq.2.2.2.2.2.2.1 k).2, rfl⟩))) k68 (fun _ _ => k70 _ _)
  refine ⟨⟨fun x => if x < yN T then tg x else q0, ITP.go (q := q0) hi hb hL z.1 z.2.1 z.2.2.2.1 z.2.2.2.2.1 z1.2.2.1 (fun x hx => (z1.1 x hx).2) (Nat.le_refl _) (Nat.le_succ _) (fun q _ hq => k66 q) (fun v hv => k67 v hv) k68 (fun q i _ _ _ _ _ => k70 q i) (fun p1 X b1 b2 hc hco I y hy => ?_) (fun q _ h1 h2 => by omega) (fun r v r1 r2 hv hd => ?_) (fun q i h1 h2 h3 => by omega)⟩, ex1, fun q h1 h2 => ?_, fun q h1 h2 h3 h4 => ?_⟩
  · rcases hy with e | e | ⟨_, e⟩ | ⟨q, w', a1, a2, a3, a4⟩
    · rw [e]; exact ⟨hN0, .inl hco.2.2.1⟩
    · rw [e]
      exact ⟨hb.1 p hp1 (by omega), hup p1 X _ b1 b2 (fun k => by rw [k]; exact hco.2.2.2.1 (by omega)) (I.2.2.2.1 p hp1 (by omega))⟩
    · rw [e]; exact ⟨hr0, .inl hco.2.2.2.2.2⟩
    · have eq := hq0 q w' a1 a2 a3
      subst eq
      rcases a4 with ⟨w2, c, c1, c2, c3⟩ | ⟨_, _, c1, c2⟩ | ⟨c1, c2, i, c3, c4⟩
      · rw [c3]
        obtain ⟨l1, l2⟩ := kdlt a1 a2 c1
        exact ⟨hb.1 c l1 (by omega), okn.up hF b1 b2 a1 a2 c1 (fun e => by rw [e]; exact hco.2.2.2.1 (by omega)) (I.2.2.2.1 c l1 (by omega))⟩
      · rw [c2]
        have hd : tvd D f p (D.tV f + w') := .inl ⟨by omega, by omega⟩
        exact ⟨hb.2.1 _ hd, .inl (hco.2.2.2.2.1 _ (hF.scP (by omega) (by omega) (D.bP (f + 1)) p1 (by omega) b1 b2) hd)⟩
      · rw [c4]
        exact ⟨hb.2.2 q i a1 a2 c1 c2 c3, I.2.2.2.2.2 q i a1 a2 c1 c2 c3⟩
  · rcases hd with d | d | ⟨r', c, d1, d2, d3, d4, d5, d6⟩
    · exact .inl (.inl d)
    · exact .inl (.inr (.inl d))
    · by_cases e : c = p
      · rw [e] at d4
        have e1 := hF.2.2.2.2.2.2 r r' v r1 r2 d1 d2 hv d6
        refine .inr ⟨by rw [e1]; exact hq0 r' 0 d1 d2 d4, r', v, d1, d2, d3, d4, d6, rfl⟩
      · exact .inl (.inr (.inr ⟨r', c, d1, d2, d3, d4, by omega, d6⟩))
  · by_cases e : q = p
    · rw [e]; exact hE
    · refine ((g3 q h1 (by omega)).ex hL (fun x hx => (z.1 x hx).2) z.2.2.1 z1.2.2.1).to (k66 q) (fun r w' c _ _ _ hc => k66 c) (fun r w' w'' c r1 r2 hr hc hlt => ?_) (fun v hv => k67 v (hv.mono (by omega))) (fun r w' r1 r2 hr hk hv => ?_) k68 (fun r w' _ _ _ _ _ => k70 _ _)
      · have := (contN.at _ _ _ _ _ (hF.2.2.1 r r1 r2).2.1 hr).2.2.2 w'' c hlt hc
        have := (contN.at _ _ _ _ _ (hF.2.2.1 r r1 r2).2.1 hr).2.1
        omega
      · have := ((hF.2.2.1 r r1 r2).2.2.2.1 hk).2.2.2
        rw [hv] at this
        rw [← this]
        exact (List.getElem?_eq_some_iff.mp hr).1
  · obtain ⟨SL, im, a1, a2⟩ := g4 q h1 h2 h3 h4
    exact ⟨SL, im, a1.ex hL (fun x hx => (z.1 x hx).2) z.2.2.1 z1.2.2.1, fun i hi => by rw [k70]; exact a2 i hi⟩
end GHOST
