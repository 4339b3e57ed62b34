/-! REGIONS, THE MODEL: rounds until nothing more is held -/
section FIXM
variable {L : Nat} {xs : Nat → Int32} {σ σ' τ0 τ2 σ0 : tvS} {D : pgD} {Gs : sgD} {m f : Nat}
variable {N : Nat} {G : tG} {r : Nat → Nat} {H1 S Sh M : Nat} {ar : Nat → Nat} {A : Nat → Nat → Prop} {R : List Nat} {S0 S1 : Nat} {vs us sc : Nat → Nat} {cl : Nat → List Nat} {ow : Nat → Int}
/-- a class with puts inside a part and outside is reached from what the part shows -/
def INTm (D : pgD) (Gs : sgD) (f : Nat) (G : tG) (r : Nat → Nat) (h0 : Nat → Nat → Prop) (τ0 : tvS) : Prop := ∀ p q1 q2 i1 i2 : Nat, D.bP f ≤ p → p < D.bP (f + 1) → D.bP f ≤ q1 → q1 < D.bP (f + 1) → D.bP f ≤ q2 → q2 < D.bP (f + 1) → i1 < D.np Gs f q1 → i2 < D.np Gs f q2 → r (pnM D τ0 q1 i1) = r (pnM D τ0 q2 i2) → spn D p q1 → ¬ spn D p q2 → RQ G r h0 (Bsm D f τ0 p) (pnM D τ0 q1 i1)
def BXm (D : pgD) (Gs : sgD) (f : Nat) (G : tG) (r : Nat → Nat) (τ0 : tvS) : Prop := ∀ q i : Nat, D.bP f ≤ q → q < D.bP (f + 1) → i < D.np Gs f q → 2 ≤ G.1 (r (pnM D τ0 q i))
/-- two that are in the same parts of which rb does not hold -/
theorem TGT.move {rb : Nat → Prop} {q q' : Nat} {o : Int} (h : TGT D f rb q o) (hs : ∀ p, D.bP f ≤ p → p < D.bP (f + 1) → ¬ rb p → (spn D p q ↔ spn D p q')) : TGT D f rb q' o := by
  rcases h with ⟨h1, h2⟩ | ⟨p, h1, h2, h3, h4, h5, h6⟩
  · refine .inl ⟨h1, fun p p1 p2 p3 => Classical.byContradiction (fun k => k ?_)⟩
    exact h2 p p1 p2 ((hs p p1 p2 k).mpr p3)
  · refine .inr ⟨p, h1, h2, h3, (hs p h1 h2 h5).mp h4, h5, fun p' p1 p2 p3 => Classical.byContradiction (fun k => k ?_)⟩
    exact h6 p' p1 p2 ((hs p' p1 (by omega) k).mpr p3)
/-- a number's owner is the owner of all its puts -/
theorem OWk.all {h h0 : Nat → Nat → Prop} {nm : Nat → Nat} (hI : ∀ x, r (r x) = r x) (hge : hGe r h0 h) (hIN : INTm D Gs f G r h0 τ0) (hBX : BXm D Gs f G r τ0) (hnm : ∀ k x : Nat, R[k]? = some x → nm x = k + 1) (hO : OWk D f r R (fun p => nbR G r h nm (Bsm D f τ0 p)) (PSb D Gs f τ0 (D.bP (f + 1))) ow) {q i k : Nat} (q1 : D.bP f ≤ q) (q2 : q < D.bP (f + 1)) (hi : i < D.np Gs f q) (hk : R[k]? = some (r (pnM D τ0 q i))) : TGT D f (fun p => nbR G r h nm (Bsm D f τ0 p) k) q (ow k) ∧ -1 ≤ ow k ∧ ow k < 4101 := by
  have up : ∀ p, RQ G r h0 (Bsm D f τ0 p) (pnM D τ0 q i) → nbR G r h nm (Bsm D f τ0 p) k := fun p hq => ⟨r (pnM D τ0 q i), hI _, (hq.le hI (fun t v e k => ⟨v, hge t v e k, rfl⟩)).cl (hI _).symm, by have := hBX q i q1 q2 hi; exact this, hnm k _ hk⟩
  rcases hO k _ hk with ⟨a1, a2⟩ | ⟨q', t, ⟨b1, b2, i', b3, b4⟩, b5, b6, b7, b8⟩
  · exact absurd rfl (a2 q _ ⟨q1, q2, i, hi, rfl⟩)
  · refine ⟨b6.move (fun p p1 p2 hn => ⟨fun s => Classical.byContradiction (fun k' => hn (up p ?_)), fun s => Classical.byContradiction (fun k' => hn (up p ?_))⟩), b7, b8⟩
    · have := hIN p q' q i' i p1 p2 b1 b2 q1 q2 b3 hi (by rw [← b4]; exact b5) s k'
      exact this.cl (by rw [← b4]; exact b5)
    · exact hIN p q q' i i' p1 p2 q1 q2 b1 b2 hi b3 (by rw [← b4]; exact b5.symm) s k'
/-- beyond a part: all parts up to there reach it -/
theorem TGT.beyond {rb : Nat → Prop} {q k e : Nat} (h : TGT D f rb q (ow k)) (he : spn D e q) (h1 : kpt D ow k e) : ∀ p, D.bP f ≤ p → p < D.bP (f + 1) → p ≤ e → spn D p q → rb p := by
  intro p p1 p2 p3 p4
  rcases h with ⟨_, h2⟩ | ⟨p', a1, a2, a3, a4, a5, a6⟩
  · exact h2 p p1 p2 p4
  · have b := he.1
    have c := a4.2
    unfold kpt at h1
    refine a6 p p1 ?_ p4
    omega
theorem TGT.keep {rb : Nat → Prop} {q k e : Nat} (h : TGT D f rb q (ow k)) (hg : ∀ p, D.bP f ≤ p → p < D.bP (f + 1) → p ≤ e → spn D p q → rb p) : kpt D ow k e := by
  unfold kpt
  rcases h with ⟨h1, _⟩ | ⟨p', a1, a2, a3, a4, a5, a6⟩
  · exact .inl h1
  · by_cases c : p' ≤ e
    · exact absurd (hg p' a1 a2 c a4) a5
    · omega
theorem MZ.Qt {hl : Nat → List Nat} {hv : Nat → Nat} {H : Nat} (hZ : MZ N G r hl hv H S σ) (hN : N < 100000) (hI : ∀ x, r (r x) = r x) (hK : HK N G r hl ∧ ∀ t, N ≤ t → hl t = []) : MQt N G r hl hv := by
  refine ⟨hN, hI, fun x hx => hZ.1.rlt hx, fun t z ht hr hk hz => ?_, fun t u hu => ?_⟩
  · obtain ⟨k1, k2, k3⟩ := hZ.1.2.2.2.2.2.1 t ht
    rcases hz with hz | ⟨i, i1, i2⟩
    · unfold kids at hz
      obtain ⟨_, g1, g2⟩ := k3 hk
      by_cases c : G.1 t = 3
      · rw [if_pos c] at hz
        rw [List.mem_singleton.mp hz]; exact g1
      · rw [if_neg c] at hz
        rcases List.mem_cons.mp hz with k | k
        · rw [k]; exact (g2 c).2
        · rw [List.mem_singleton.mp k]; exact g1
    · obtain ⟨_, _, h3, h4, _⟩ := hZ.2.1
      rw [← i2]
      exact (h3 i ((h4 t ht hr).2.2 i i1)).2
  · obtain ⟨i, i1, i2⟩ := hu
    have hne : hl (r t) ≠ [] := fun e => by rw [e] at i1; cases i1
    by_cases c : r t < N
    · rw [hK.1 _ c (hI t) hne]; decide
    · exact absurd (hK.2 _ (by omega)) hne
theorem frX.ofo {F : List Nat} (h : frX FAm F [187, 188, 189] τ0 σ) (q : Nat) : oM σ q = oM τ0 q := by unfold oM; rw [h.rd (j := 178) rfl]
theorem frX.ofv {F : List Nat} (h : frX FAm F [187, 188, 189] τ0 σ) (q : Nat) : vM σ q = vM τ0 q := by unfold vM; rw [h.rd (j := 179) rfl]
theorem frX.ofr {F : List Nat} (h : frX FAm F [187, 188, 189] τ0 σ) (q : Nat) : rM σ q = rM τ0 q := by unfold rM; rw [h.rd (j := 180) rfl]
theorem TYm.fr {F : List Nat} (h : TYm D f N τ0) (w : frX FAm F [187, 188, 189] τ0 σ) : TYm D f N σ := by
  refine ⟨fun p h1 h2 => ?_, fun v h1 h2 => ?_, ?_⟩
  · rw [w.ofo, w.rd (j := 178) rfl]; exact h.1 p h1 h2
  · rw [w.ofv, w.rd (j := 179) rfl]; exact h.2.1 v h1 h2
  · rw [w.ofr, w.rd (j := 180) rfl]; exact h.2.2
theorem SCm.fr {F : List Nat} (h : SCm D f S0 S1 vs us sc cl τ0) (w : frX FAm F [187, 188, 189] τ0 σ) : SCm D f S0 S1 vs us sc cl σ := by
  obtain ⟨a1, a2, a3, a4⟩ := h
  refine ⟨by rw [w.rd (j := 202) rfl, w.rd (j := 202) rfl]; exact a1, fun s h1 h2 => by rw [w.rd (j := 149) rfl, w.rd (j := 150) rfl]; exact a2 s h1 h2, a3, fun p h1 h2 => by rw [w.rd (j := 160) rfl]; exact a4 p h1 h2⟩
theorem PGR.frX {F : List Nat} (h : PGR D σ0 τ0) (w : frX FAm F [187, 188, 189] τ0 σ) : PGR D σ0 σ := h.to (fun _ _ _ => rfl) (fun j hj i => w.rd (inL_off (S := prM) (S' := 123 :: FAm) (by decide) j hj) i)
theorem frX.ofB {F : List Nat} (w : frX FAm F [187, 188, 189] τ0 σ) (p b : Nat) : Bsm D f σ p b ↔ Bsm D f τ0 p b := by
  unfold Bsm
  rw [w.ofo, w.ofr]
  constructor
  · rintro (k | ⟨v, k1, k2⟩ | k)
    · exact .inl k
    · exact .inr (.inl ⟨v, k1, by rw [k2, w.ofv]⟩)
    · exact .inr (.inr k)
  · rintro (k | ⟨v, k1, k2⟩ | k)
    · exact .inl k
    · exact .inr (.inl ⟨v, k1, by rw [k2, w.ofv]⟩)
    · exact .inr (.inr k)
theorem frX.ofF {F : List Nat} (w : frX FAm F [187, 188, 189] τ0 σ) (b : Nat) : FTm D f σ b → FTm D f τ0 b := by
  rintro (⟨p, h1, h2, h3⟩ | ⟨v, h1, h2, h3⟩ | h)
  · exact .inl ⟨p, h1, h2, by rw [h3, w.ofo]⟩
  · exact .inr (.inl ⟨v, h1, h2, by rw [h3, w.ofv]⟩)
  · exact .inr (.inr (by rw [h, w.ofr]))
theorem frX.ofc {F : List Nat} (w : frX FAm F [187, 188, 189] τ0 σ) (q i : Nat) : cM σ q i = cM τ0 q i := by unfold cM; rw [w.rd (j := 182) rfl, w.rd (j := 181) rfl]
theorem frX.ofp {F : List Nat} (w : frX FAm F [187, 188, 189] τ0 σ) (q i : Nat) : pnM D σ q i = pnM D τ0 q i := by unfold pnM; rw [w.ofc, w.ofo]
theorem CLm.fr {F : List Nat} (h : CLm D Gs f N τ0) (w : frX FAm F [187, 188, 189] τ0 σ) : CLm D Gs f N σ := fun p h1 h2 h3 h4 => by
  obtain ⟨n1, a1, a2, a3, a4, a5⟩ := h p h1 h2 h3 h4
  exact ⟨n1, by rw [w.rd (j := 181) rfl]; exact a1, a2, fun i hi => by rw [w.ofc, w.rd (j := 182) rfl]; exact a3 i hi, by rw [w.rd (j := 191) rfl]; exact a4, a5⟩
/-- where the function calls itself within a fn -/
def sfM (D : pgD) (f : Nat) (by' : Nat → Nat) (j : Nat) : Prop := ∃ q, spn D (by' j) q ∧ D.K q = 3 ∧ D.vl q = f
/-- what a fn captures -/
def cpM (D : pgD) (pt by' : Nat → Nat) (τ0 : tvS) (j u : Nat) : Prop := ∃ q, spn D (by' j) q ∧ D.K q = 2 ∧ D.vl q ∈ D.sl (pt j) ∧ u = vM τ0 (D.vl q)
/-- between two rounds -/
def WLm (D : pgD) (f N : Nat) (G : tG) (r : Nat → Nat) (H1 S Sh : Nat) (ar : Nat → Nat) (A : Nat → Nat → Prop) (NL : List (Nat × Nat)) (hl : Nat → List Nat) (hv : Nat → Nat) (τ0 σ : tvS) : Prop :=
  MZ N G r hl hv (H1 + NL.length) S σ ∧ MH N Sh σ ∧ NL.Nodup ∧ (∀ e, e ∈ NL → A e.1 e.2 ∧ ∃ v, hC hl hv (r (ar e.1)) v ∧ r v = e.2) ∧ (HK N G r hl ∧ ∀ t, N ≤ t → hl t = []) ∧ frX FAm [72, 73, 84, 94] [187, 188, 189] τ0 σ
theorem fix_m {pt by' : Nat → Nat} {wd C1 C2 : Nat} (hC1 : 8000 ≤ C1) (hC2 : 4001 ≤ C2) {nm : Nat → Nat} {h0 : Nat → Nat → Prop} {LF : Nat → Nat → Prop} (eLF : LF = LFP D f G r h0 (Bsm D f τ0) (D.np Gs f) (pnM D τ0) ar by' (sfM D f by') (cpM D pt by' τ0)) (hF : PGF D m) (hf : f ≤ D.fc) (hR : PGR D σ0 τ0) (hty : TYm D f N τ0) (hcl : CLm D Gs f N τ0) (hsc : SCm D f S0 S1 vs us sc cl τ0) (hpt : FNP D f pt by') (hN : N < 100000) (hI : ∀ x, r (r x) = r x) (hIN : INTm D Gs f G r h0 τ0) (hBX : BXm D Gs f G r τ0)
    (hR1 : R.length ≤ 60) (hR2 : R.Nodup) (hR3 : ∀ i x : Nat, R[i]? = some x → rd τ0 184 x = i32 ((i + 1 : Nat) : Int) ∧ rd τ0 185 i = i32 (x : Int) ∧ x < N ∧ r x = x) (hR4 : rd τ0 123 87 = i32 (R.length : Int)) (hR5 : ∀ q i, D.bP f ≤ q → q < D.bP (f + 1) → i < D.np Gs f q → r (pnM D τ0 q i) ∈ R) (hR6 : ∀ k x : Nat, R[k]? = some x → ∃ q i, D.bP f ≤ q ∧ q < D.bP (f + 1) ∧ i < D.np Gs f q ∧ r (pnM D τ0 q i) = x) (hwd : wd ≤ 1) (hwR : R ≠ [] → wd = 1) (h90 : rd τ0 123 90 = i32 (wd : Int))
    (hnm : ∀ t, t < N → RQ G r (fun t v => LF t (r v)) (FTm D f τ0) t → r t = t → 2 ≤ G.1 t → rd τ0 184 t = i32 (nm t : Int) ∧ nm t ≤ 60) (hnR : ∀ k x : Nat, R[k]? = some x → nm x = k + 1) (hnR' : ∀ k t : Nat, r t = t → 2 ≤ G.1 t → RQ G r (fun t v => LF t (r v)) (FTm D f τ0) t → nm t = k + 1 → R[k]? = some t)
    (hA : ∀ l : List (Nat × Nat), l.Nodup → (∀ e, e ∈ l → A e.1 e.2) → l.length ≤ M) (hM : H1 + M < 250000) (har : ∀ j, D.bF f ≤ j → j < D.bF (f + 1) → ar j = oM τ0 (pt j) ∧ G.1 (r (ar j)) = 4) (hAc : ∀ j q, D.bF f ≤ j → j < D.bF (f + 1) → spn D (by' j) q → D.K q = 2 → D.vl q ∈ D.sl (pt j) → A j (r (vM τ0 (D.vl q)))) (hAp : ∀ j x, D.bF f ≤ j → j < D.bF (f + 1) → x ∈ R → A j x) (d : Nat) :
    ∀ (i S Sh : Nat) (σ : tvS) (NL : List (Nat × Nat)) (hl : Nat → List Nat) (hv : Nat → Nat) (v3 : Value), M ≤ NL.length + i → S + C1 * (i + 1) < 2147483648 → Sh + C2 * (i + 1) < 2147483648 → WLm D f N G r H1 S Sh ar A NL hl hv τ0 σ → hGe r h0 (hC hl hv) → hLe r (hC hl hv) LF →
    ∃ (σ' : tvS) (S' Sh' : Nat) (NL' : List (Nat × Nat)) (hl' : Nat → List Nat) (hv' : Nat → Nat) (ow : Nat → Int) (w3 : Value), rn L xs (d + 6) 348 85 [.ref 123, .int (i32 (f : Int)), .int 1, v3] [] σ = rn L xs (d + 6) 348 149 [.ref 123, .int (i32 (f : Int)), .int 0, w3] [] σ' ∧ S ≤ S' ∧ S' ≤ S + C1 * (i + 1) ∧ Sh ≤ Sh' ∧ Sh' ≤ Sh + C2 * (i + 1) ∧ WLm D f N G r H1 S' Sh' ar A NL' hl' hv' τ0 σ' ∧ hGe r (hC hl hv) (hC hl' hv') ∧ hLe r (hC hl' hv') LF ∧ ((∀ k, k < R.length → rd σ' 186 k = i32 (ow k) ∧ -2 ≤ ow k ∧ ow k < 4101) ∧ rd σ' 123 94 = i32 ((S0 + 1 : Nat) : Int)) ∧ OWk D f r R (fun p => nbR G r (hC hl' hv') nm (Bsm D f τ0 p)) (PSb D Gs f τ0 (D.bP (f + 1))) ow ∧
      ∀ j, D.bF f ≤ j → j < D.bF (f + 1) → ∀ q', spn D (by' j) q' → HFm D Gs f G r R ow τ0 (hC hl' hv') (ar j) (pt j) (by' j) q' := by
  have hb4 := hF.1
  have hbl := (hF.le (D.fc + 1 - (f + 1)) (f + 1) (by omega))
  have hPf := hF.2.2 f hf
  have hff := hR.1 f hf
  have hlt := hPf.1.1
  have lfc := LFP.cls (D := D) (f := f) (G := G) (r := r) (h0 := h0) (Bs := Bsm D f τ0) (np := D.np Gs f) (pn := pnM D τ0) (ar := ar) (by' := by') (sf := sfM D f by') (cap := cpM D pt by' τ0) hI
  rw [← eLF] at lfc
  -- one round
  have round : ∀ (S Sh : Nat) (σ : tvS) (NL : List (Nat × Nat)) (hl : Nat → List Nat) (hv : Nat → Nat) (v3 : Value), S + 8000 < 2147483648 → Sh + 4001 < 2147483648 → WLm D f N G r H1 S Sh ar A NL hl hv τ0 σ → hGe r h0 (hC hl hv) → hLe r (hC hl hv) LF →
      ∃ (σ' : tvS) (S' Sh' : Nat) (NL' : List (Nat × Nat)) (hl' : Nat → List Nat) (hv' : Nat → Nat) (ow : Nat → Int) (y' : Int32) (w3 : Value), rn L xs (d + 6) 348 85 [.ref 123, .int (i32 (f : Int)), .int 1, v3] [] σ = rn L xs (d + 6) 348 85 [.ref 123, .int (i32 (f : Int)), .int y', w3] [] σ' ∧ S ≤ S' ∧ S' ≤ S + 8000 ∧ Sh ≤ Sh' ∧ Sh' ≤ Sh + 4001 ∧ WLm D f N G r H1 S' Sh' ar A NL' hl' hv' τ0 σ' ∧ hGe r (hC hl hv) (hC hl' hv') ∧ hLe r (hC hl' hv') LF ∧ ((∀ k, k < R.length → rd σ' 186 k = i32 (ow k) ∧ -2 ≤ ow k ∧ ow k < 4101) ∧ rd σ' 123 94 = i32 ((S0 + 1 : Nat) : Int)) ∧ OWk D f r R (fun p => nbR G r (hC hl hv) nm (Bsm D f τ0 p)) (PSb D Gs f τ0 (D.bP (f + 1))) ow ∧ ((y' = 0 ∧ NL' = NL ∧ hl' = hl ∧ hv' = hv) ∨ (y' = 1 ∧ NL.length < NL'.length)) ∧
        ∀ j, D.bF f ≤ j → j < D.bF (f + 1) → ∀ q', spn D (by' j) q' → HFm D Gs f G r R ow τ0 (hC hl' hv') (ar j) (pt j) (by' j) q' := by
    intro S Sh σ NL hl hv v3 hS hSh hW hge hle
    obtain ⟨w1, w2, w3', w4, w5, w6⟩ := id hW
    have hlen := hA NL w3' (fun e he => (w4 e he).1)
    have q := w1.Qt hN hI w5
    have s1 := hsc.1
    have rqL : ∀ (B : Nat → Prop) t, RQ G r (hC hl hv) B t → RQ G r (fun t v => LF t (r v)) B t := fun B t h => h.le hI (fun t v e k => ⟨v, hle t v e k, rfl⟩)
    obtain ⟨σ1, a1, a2, a3, a4, a5⟩ := gather_m (L := L) (xs := xs) (nm := nm) q hF hf (hR.frX w6) (hty.fr w6) (hsc.fr w6) hwd (by rw [w6.2.1 90 rfl]; exact h90) (fun t ht k => by
      rw [w6.rd (j := 184) rfl]
      exact hnm t ht ((rqL _ t k).mono (fun b kb => w6.ofF b kb))) w1 (by omega) d jv jv jv jv jv
    have hBT : R ≠ [] → ∀ p, D.bP f ≤ p → p < D.bP (f + 1) → LBt 187 (p - D.bP f) σ1 (nbR G r (hC hl hv) nm (Bsm D f τ0 p)) := fun hne p h1 h2 j hj => (a5 (hwR hne) p h1 h2 j hj).trans (nbR.congr (fun b => w6.ofB p b))
    have b0 : frX FAm [72, 73, 84, 94] [187, 188, 189] τ0 σ1 := w6.trans (a3.sub rfl rfl rfl)
    obtain ⟨σ2, ow, b1, b2, b3, b4, b5⟩ := findOwn_m (L := L) (xs := xs) (Gs := Gs) (R := R) (τ0 := σ) (BT := fun p => nbR G r (hC hl hv) nm (Bsm D f τ0 p)) hF hf (hR.frX w6) a3 (fun hne => by rw [b0.2.1 90 rfl, ← hwR hne]; exact h90) (by rw [b0.2.1 87 rfl]; exact hR4) hBT hR1 hR2 (fun i x hx => by rw [b0.rd (j := 184) rfl]; exact (hR3 i x hx).1) (hty.fr w6) (hcl.fr w6) (fun q i h1 h2 h3 => by rw [w6.ofp]; exact hR5 q i h1 h2 h3) a2 (d + 1) jv jv jv
    have b5 := b5.congr (PS' := PSb D Gs f τ0 (D.bP (f + 1))) (fun q t => by
      unfold PSb
      constructor
      · rintro ⟨k1, k2, i, k3, k4⟩; exact ⟨k1, k2, i, k3, by rw [k4, w6.ofp]⟩
      · rintro ⟨k1, k2, i, k3, k4⟩; exact ⟨k1, k2, i, k3, by rw [k4, w6.ofp]⟩)
    have c0 : frX FAm [72, 73, 84, 94] [187, 188, 189] τ0 σ2 := b0.trans ((b3.X [187, 188, 189]).sub rfl rfl rfl)
    have hD : RDm D Gs m f N r R S0 S1 vs us sc cl ow σ0 τ0 σ2 := ⟨hF, hf, hR, hty, hcl, hsc, c0, ⟨hR1, hR3, hR4, by rw [b3.2 94 rfl]; exact a4⟩, hR5, b4⟩
    have tg : ∀ q i k : Nat, D.bP f ≤ q → q < D.bP (f + 1) → i < D.np Gs f q → R[k]? = some (r (pnM D τ0 q i)) → TGT D f (fun p => nbR G r (hC hl hv) nm (Bsm D f τ0 p) k) q (ow k) := fun q i k q1 q2 hi hk => (OWk.all hI hge hIN hBX hnR b5 q1 q2 hi hk).1
    have nbx : ∀ p q i k : Nat, D.bP f ≤ q → q < D.bP (f + 1) → D.bP f ≤ p → p < D.bP (f + 1) → i < D.np Gs f q → R[k]? = some (r (pnM D τ0 q i)) → nbR G r (hC hl hv) nm (Bsm D f τ0 p) k → RQ G r (fun t v => LF t (r v)) (Bsm D f τ0 p) (pnM D τ0 q i) := fun p q i k q1 q2 p1 p2 hi hk ⟨t, t1, t2, t3, t4⟩ => by
      have t2' := rqL _ _ t2
      have ft := t2'.mono (B' := FTm D f τ0) (fun b kb => by
        rcases kb with k | ⟨v, k1, k2⟩ | k
        · exact .inl ⟨p, p1, p2, k⟩
        · have := PFf.inV hPf k1 p1 p2
          exact .inr (.inl ⟨v, this.1, this.2, k2⟩)
        · exact .inr (.inr k))
      have := Option.some.inj ((hnR' k t t1 t3 ft t4).symm.trans hk)
      rw [this] at t2'
      exact t2'.cl (hI _)
    have hQ : ∀ j Sh, D.bF f ≤ j → j < D.bF (f + 1) → Sh < 2147483648 → HQm D Gs f N G r R ow H1 Sh M ar A LF j (pt j) (by' j) τ0 := fun j Sh' j1 j2 hs => by
      obtain ⟨g1, g2⟩ := har j j1 j2
      obtain ⟨p1, p2, p3, p4, p5⟩ := hpt j j1 j2
      obtain ⟨_, _, _, g4, g5, g6, g7⟩ := hR.fn hF hf hpt j1 j2
      refine ⟨⟨hA, hM, hI, hs, g1, g2⟩, fun q s k1 k2 k3 => ⟨hAc j q j1 j2 s k1 k2, lfc.2.1 j _ j1 j2 ⟨q, s, k1, k2, rfl⟩ k3⟩, fun q i k s hi hk hkp k3 => ⟨hAp j _ j1 j2 (List.mem_of_getElem? hk), ?_⟩, fun q k x s k1 k2 hk ho k3 => ⟨?_, ?_⟩⟩
      · have l1 := s.1
        have l2 := s.2
        refine lfc.2.2.1 j q i j1 j2 s hi (fun p h1 h2 h3 h4 => ⟨?_, hBX q i (by omega) (by omega) hi⟩) k3
        exact nbx p q i k (by omega) (by omega) h1 h2 hi hk ((tg q i k (by omega) (by omega) hi hk).beyond s hkp p h1 h2 h3 h4)
      · rw [(hR3 k x hk).2.2.2]; exact hAp j x j1 j2 (List.mem_of_getElem? hk)
      · obtain ⟨q', i', r1, r2, r3, r4⟩ := hR6 k x hk
        rw [← r4] at hk k3 ⊢
        rw [hI] at k3 ⊢
        refine lfc.2.2.2 j q' i' j1 j2 ⟨q, s, k1, k2⟩ r1 r2 r3 (fun p h1 h2 h3 h4 => ⟨?_, hBX q' i' r1 r2 r3⟩) k3
        refine nbx p q' i' k r1 r2 h1 h2 r3 hk ?_
        rcases tg q' i' k r1 r2 r3 hk with ⟨_, t2⟩ | ⟨p', _, _, t3, _⟩
        · exact t2 p h1 h2 h4
        · omega
    obtain ⟨x1, x2, x3⟩ := id b2
    have hP2 : HPM N G r H1 (S + 1 + (S1 - S0) + (D.bP (f + 1) - D.bP f)) Sh ar A NL hl hv σ2 σ2 := ⟨b2, ?_, w3', w4, w5, frM.refl⟩
    obtain ⟨σ', y', NL', hl', hv', Sh', w3, z1, z2, z3, z4, z5, z6, z7, z8, z9, z10⟩ := fns_hold (L := L) (xs := xs) hD hpt hQ (d + 1) (D.bP (f + 1) - D.bP f) (D.bP f) Sh σ2 NL hl hv 0 (by omega) (Nat.le_refl _) (by omega) hP2 hle (.inl rfl)
    refine ⟨σ', S + 1 + (S1 - S0) + (D.bP (f + 1) - D.bP f), Sh', NL', hl', hv', ow, y', w3, ?_, by omega, by omega, z2, by omega, ⟨z4.1, z4.2.1, z4.2.2.1, z4.2.2.2.1, z4.2.2.2.2.1, c0.trans ((z4.2.2.2.2.2.X [187, 188, 189]).sub rfl rfl rfl)⟩, z5, z6, ⟨fun k hk => by rw [z4.2.2.2.2.2.rd (j := 186) rfl]; exact b4 k hk, by rw [z4.2.2.2.2.2.2 94 rfl, b3.2 94 rfl]; exact a4⟩, b5, z9, fun j h1 h2 => z10 j h1 h2 (hpt j h1 h2).1⟩
    · rw [e348_85 (d + 5), show pv_c1 .eq (1 : Int32) = false from rfl, cond_false, bV_ok a1, bV_ok b1, c_in (by omega) (by omega) (by omega), i32_ixn (by omega), c0.rd (j := 143) rfl, hff.2.1.2.2.2.1]
      exact z1
    · exact ⟨by rw [b3.2 84 rfl, a3.2.1 84 rfl]; exact w2.1, fun x hx => by rw [b3.rd (j := 183) rfl, a3.rd (j := 183) rfl]; exact w2.2 x hx⟩
  intro i
  induction i with
  | zero =>
    intro S Sh σ NL hl hv v3 hi hS hSh hW hge hle
    rw [show C1 * (0 + 1) = C1 by omega] at hS ⊢
    rw [show C2 * (0 + 1) = C2 by omega] at hSh ⊢
    obtain ⟨σ', S', Sh', NL', hl', hv', ow, y', w3, a1, a2, a3, a4, a5, a6, a7, a8, a9, a10, a11, a12⟩ := round S Sh σ NL hl hv v3 (by omega) (by omega) hW hge hle
    rcases a11 with ⟨e1, e2, e3, e4⟩ | ⟨e1, e2⟩
    · subst e1; subst e2; subst e3; subst e4
      refine ⟨σ', S', Sh', NL', hl', hv', ow, w3, ?_, a2, by omega, a4, by omega, a6, a7, a8, a9, a10, a12⟩
      rw [a1, e348_85, show pv_c1 .eq (0 : Int32) = true from rfl, cond_true]
    · have := hA NL' a6.2.2.1 (fun e he => (a6.2.2.2.1 e he).1)
      omega
  | succ i ih =>
    intro S Sh σ NL hl hv v3 hi hS hSh hW hge hle
    rw [Nat.mul_succ C1 (i + 1)] at hS ⊢
    rw [Nat.mul_succ C2 (i + 1)] at hSh ⊢
    obtain ⟨σ', S', Sh', NL', hl', hv', ow, y', w3, a1, a2, a3, a4, a5, a6, a7, a8, a9, a10, a11, a12⟩ := round S Sh σ NL hl hv v3 (by omega) (by omega) hW hge hle
    rcases a11 with ⟨e1, e2, e3, e4⟩ | ⟨e1, e2⟩
    · subst e1; subst e2; subst e3; subst e4
      refine ⟨σ', S', Sh', NL', hl', hv', ow, w3, ?_, a2, by omega, a4, by omega, a6, a7, a8, a9, a10, a12⟩
      rw [a1, e348_85, show pv_c1 .eq (0 : Int32) = true from rfl, cond_true]
    · subst e1
      obtain ⟨σ'', S'', Sh'', NL'', hl'', hv'', ow', w4, z1, z2, z3, z4, z5, z6, z7, z8, z9⟩ := ih S' Sh' σ' NL' hl' hv' w3 (by omega) (by omega) (by omega) a6 (fun t v e k => a7 t v e (hge t v e k)) a8
      refine ⟨σ'', S'', Sh'', NL'', hl'', hv'', ow', w4, by rw [a1]; exact z1, by omega, by omega, by omega, by omega, z6, fun t v e k => z7 t v e (a7 t v e k), z8, z9⟩
end FIXM
