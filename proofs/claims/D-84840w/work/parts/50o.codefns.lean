/-! CODE: all of it -/
section SUMS
variable {w w' : Nat → Nat} {s : Nat}
theorem sumF_mono : ∀ n, (∀ i, i < n → w (s + i) ≤ w' (s + i)) → sumF w s n ≤ sumF w' s n := by
  intro n
  induction n with
  | zero => intro _; exact Nat.le_refl _
  | succ n ih =>
    intro h
    have := ih (fun i hi => h i (by omega))
    have := h n (by omega)
    show sumF w s n + w (s + n) ≤ sumF w' s n + w' (s + n)
    omega
theorem sumF_two : ∀ n, sumF (fun q => w q + w' q) s n = sumF w s n + sumF w' s n := by
  intro n
  induction n with
  | zero => rfl
  | succ n ih =>
    show sumF (fun q => w q + w' q) s n + (w (s + n) + w' (s + n)) = (sumF w s n + w (s + n)) + (sumF w' s n + w' (s + n))
    rw [ih]; omega
theorem sumF_sub {s' n n' : Nat} (h1 : s ≤ s') (h2 : s' + n' ≤ s + n) : sumF w s' n' ≤ sumF w s n := by
  have e1 := sumF_add (w := w) (n - (s' - s)) s (s' - s)
  rw [show s' - s + (n - (s' - s)) = n by omega, show s + (s' - s) = s' by omega] at e1
  have e2 := sumF_add (w := w) (n - (s' - s) - n') s' n'
  rw [show n' + (n - (s' - s) - n') = n - (s' - s) by omega] at e2
  omega
theorem sumF_cst {k : Nat} : ∀ n, (∀ i, i < n → w (s + i) = k) → sumF w s n = k * n := by
  intro n
  induction n with
  | zero => intro _; rfl
  | succ n ih =>
    intro h
    show sumF w s n + w (s + n) = k * (n + 1)
    rw [ih (fun i hi => h i (by omega)), h n (by omega), Nat.mul_succ]
end SUMS
/-- what a part may cost, whichever fn it stands in -/
noncomputable def cqA (rg : rgD) (f q : Nat) : Nat := 104 + 2 * (ownN rg f q).length
noncomputable def cqN (D : pgD) (rg : rgD) (cd : cdD) (f n q : Nat) : Nat := if cd.fn D q = -1 ∨ ((D.bF f : Int) ≤ cd.fn D q ∧ cd.fn D q < ((D.bF f + n : Nat) : Int)) then cqA rg f q else 0
/-- of a whole function -/
noncomputable def cqT (D : pgD) (rg : rgD) (f : Nat) : Nat := sumF (cqA rg f) (D.bP f) (D.bP (f + 1) - D.bP f) + (D.bF (f + 1) - D.bF f) + 1
section MAKE
variable {L : Nat} {xs : Nat → Int32} {σ σ' σ0 τ0 : tvS} {K1 K2 N f a n : Nat} {C : tG} {c : Nat → Nat} {cf : Int} {D : pgD} {G : sgD} {rg : rgD} {cd : cdD} {m : Nat} {cp : Nat → List (Nat × Nat)} {dp : Nat → Nat}
theorem cqF_le (q : Nat) : cqF D rg cd f cf q ≤ cqA rg f q := by
  unfold cqF cqA
  by_cases h : cd.fn D q = cf
  · rw [if_pos h]
    by_cases k : D.K q = 17
    · rw [if_pos k]; omega
    · rw [if_neg k]; omega
  · rw [if_neg h]; omega
theorem cqN_zero (s k : Nat) : sumF (cqF D rg cd f (-1)) s k ≤ sumF (cqN D rg cd f 0) s k := sumF_mono k (fun i _ => by
  by_cases h : cd.fn D (s + i) = -1
  · have := cqF_le (D := D) (rg := rg) (cd := cd) (f := f) (cf := -1) (s + i)
    unfold cqN; rw [if_pos (.inl h)]; exact this
  · unfold cqF; rw [if_neg h]; exact Nat.zero_le _)
theorem cqN_succ (n s k : Nat) : sumF (cqN D rg cd f n) s k + sumF (cqF D rg cd f ((D.bF f + n : Nat) : Int)) s k ≤ sumF (cqN D rg cd f (n + 1)) s k := by
  rw [← sumF_two]
  refine sumF_mono k (fun i _ => ?_)
  show cqN D rg cd f n (s + i) + cqF D rg cd f _ (s + i) ≤ _
  by_cases h : cd.fn D (s + i) = ((D.bF f + n : Nat) : Int)
  · have h1 : cqN D rg cd f n (s + i) = 0 := by unfold cqN; rw [if_neg (by omega)]
    have h2 : cqN D rg cd f (n + 1) (s + i) = cqA rg f (s + i) := by unfold cqN; rw [if_pos (by omega)]
    have := cqF_le (D := D) (rg := rg) (cd := cd) (f := f) (cf := ((D.bF f + n : Nat) : Int)) (s + i)
    omega
  · have h1 : cqF D rg cd f ((D.bF f + n : Nat) : Int) (s + i) = 0 := by unfold cqF; rw [if_neg h]
    rw [h1]
    unfold cqN
    by_cases g : cd.fn D (s + i) = -1 ∨ ((D.bF f : Int) ≤ cd.fn D (s + i) ∧ cd.fn D (s + i) < ((D.bF f + n : Nat) : Int))
    · rw [if_pos g, if_pos (by omega)]; exact Nat.le_refl _
    · rw [if_neg g]; omega
theorem cqN_all (n s k : Nat) : sumF (cqN D rg cd f n) s k ≤ sumF (cqA rg f) s k := sumF_mono k (fun i _ => by
  unfold cqN
  by_cases h : cd.fn D (s + i) = -1 ∨ ((D.bF f : Int) ≤ cd.fn D (s + i) ∧ cd.fn D (s + i) < ((D.bF f + n : Nat) : Int))
  · rw [if_pos h]; exact Nat.le_refl _
  · rw [if_neg h]; exact Nat.zero_le _)
/-- code of a function, of a fn -/
def FCO (D : pgD) (rg : rgD) (cd : cdD) (a : Nat) (σ : tvS) (g : Nat) : Prop := ∃ E b : Nat, rd σ 96 g = i32 (E : Int) ∧ CA D rg cd (rd σ 95) g 100 (D.bP (g + 1) - 1) E b ∧ rd σ 95 b = (if g = D.fc then 27 else 26) ∧ b < a
def HCO (D : pgD) (rg : rgD) (cd : cdD) (a : Nat) (σ : tvS) (h : Nat) : Prop := ∃ g p k0 E b : Nat, g ≤ D.fc ∧ D.bP g ≤ p ∧ p < D.bP (g + 1) ∧ D.K p = 17 ∧ D.vl p = h ∧ D.kd p = [k0] ∧ rd σ 97 h = i32 (E : Int) ∧ rd σ 98 h = i32 (g : Int) ∧ CA D rg cd (rd σ 95) g 100 k0 E b ∧ rd σ 95 b = 26 ∧ b < a
theorem FCO.go {a' g : Nat} (h : FCO D rg cd a σ g) (h1 : ∀ i, i < a → rd σ' 95 i = rd σ 95 i) (h2 : rd σ' 96 g = rd σ 96 g) (ha : a ≤ a') : FCO D rg cd a' σ' g := by
  obtain ⟨E, b, k1, k2, k3, k4⟩ := h
  have := CA.lt _ _ _ _ k2
  exact ⟨E, b, by rw [h2]; exact k1, CA.to _ _ _ _ k2 (fun i i1 i2 => h1 i (by omega)), by rw [h1 b k4]; exact k3, by omega⟩
theorem HCO.go {a' h : Nat} (hh : HCO D rg cd a σ h) (h1 : ∀ i, i < a → rd σ' 95 i = rd σ 95 i) (h2 : rd σ' 97 h = rd σ 97 h) (h3 : rd σ' 98 h = rd σ 98 h) (ha : a ≤ a') : HCO D rg cd a' σ' h := by
  obtain ⟨g, p, k0, E, b, k1, k2, k3, k4, k5, k6, k7, k8, k9, k10, k11⟩ := hh
  have := CA.lt _ _ _ _ k9
  exact ⟨g, p, k0, E, b, k1, k2, k3, k4, k5, k6, by rw [h2]; exact k7, by rw [h3]; exact k8, CA.to _ _ _ _ k9 (fun i i1 i2 => h1 i (by omega)), by rw [h1 b k11]; exact k10, by omega⟩
theorem CDS.row {j i : Nat} {x : Int32} (h : CDS K1 K2 N C c f cf a σ0 σ) (hj : j = 96 ∨ j = 97 ∨ j = 98 ∨ j = 99) : CDS K1 K2 N C c f cf a σ0 (wr σ j i x) := by
  obtain ⟨h1, h2, h3, h4, h5, h6, h7, h8⟩ := h
  have w : frW [96, 97, 98, 99] σ (wr σ j i x) := frW_wr (by rcases hj with e | e | e | e <;> subst e <;> rfl)
  exact ⟨h1.T (w.T [] [] rfl) rfl ⟨rfl, rfl, rfl, rfl⟩ (fun _ _ _ => rfl), h2.fr w, by rw [wr_nek (by omega)]; exact h3, by rw [w.ln]; exact h4, by rw [wr_nek (by omega)]; exact h5, by rw [wr_nek (by omega)]; exact h6, h7.trans ((w.G [95]).sub rfl rfl), fun i i1 i2 i3 => by rw [wr_nek (by omega)]; exact h8 i i1 i2 i3⟩
theorem CDS.fld {cf' : Int} (h : CDS K1 K2 N C c f cf a σ0 σ) : CDS K1 K2 N C c f cf' a σ0 (wr σ 94 10 (i32 cf')) := by
  obtain ⟨h1, h2, h3, h4, h5, h6, h7, h8⟩ := h
  have w : frW [94] σ (wr σ 94 10 (i32 cf')) := frW_wr rfl
  exact ⟨h1.T (w.T [] [] rfl) rfl ⟨rfl, rfl, rfl, rfl⟩ (fun _ _ _ => rfl), h2.fr w, by rw [wr_nei (by decide)]; exact h3, by rw [w.ln]; exact h4, by rw [wr_nei (by decide)]; exact h5, wr_self _ _ _ _, h7.trans ((w.G [95]).sub rfl rfl), fun i i1 i2 i3 => by rw [wr_nei i3]; exact h8 i i1 i2 i3⟩
theorem CDS.fun' {g : Nat} (h : CDS K1 K2 N C c f cf a σ0 σ) : CDS K1 K2 N C c g cf a σ0 (wr σ 94 9 (i32 (g : Int))) := by
  obtain ⟨h1, h2, h3, h4, h5, h6, h7, h8⟩ := h
  have w : frW [94] σ (wr σ 94 9 (i32 (g : Int))) := frW_wr rfl
  exact ⟨h1.T (w.T [] [] rfl) rfl ⟨rfl, rfl, rfl, rfl⟩ (fun _ _ _ => rfl), h2.fr w, by rw [wr_nei (by decide)]; exact h3, by rw [w.ln]; exact h4, wr_self _ _ _ _, by rw [wr_nei (by decide)]; exact h6, h7.trans ((w.G [95]).sub rfl rfl), fun i i1 i2 i3 => by rw [wr_nei i2]; exact h8 i i1 i2 i3⟩
/-- what besides is known of variables' owners -/
def CEN2 (D : pgD) (cd : cdD) : Prop := (∀ f k, f ≤ D.fc → k < D.bk f → cd.vo (D.tV f + k) = -1) ∧ ∀ p v, p < D.bP (D.fc + 1) → D.K p = 17 → v ∈ D.sl p → cd.vo v ≠ (D.vl p : Int)
/-- the fns of a function -/
theorem fns_code (hE : CEN D G rg cd m N c cp dp σ0 τ0) (h2 : CEN2 D cd) (hf : f ≤ D.fc) {A0 : Nat} (hA : A0 + cqT D rg f ≤ 131000) (d : Nat) :
    ∀ (j h a : Nat) (cf : Int) (σ : tvS), h + j = D.bF (f + 1) → D.bF f ≤ h → CDS K1 K2 N C c f cf a σ0 σ → a ≤ A0 + sumF (cqN D rg cd f (h - D.bF f)) (D.bP f) (D.bP (f + 1) - D.bP f) + (h - D.bF f) + 1 → (∀ g, g < f + 1 → FCO D rg cd a σ g) → (∀ h', h' < h → HCO D rg cd a σ h') →
      ∃ (σ' : tvS) (a' : Nat) (cf' : Int) (v1 : Value), rn L xs (d + 307) 197 151 [.ref 94, .int (i32 (h : Int))] [] σ = rn L xs (d + 307) 197 241 [.ref 94, v1] [] σ' ∧ CDS K1 K2 N C c f cf' a' σ0 σ' ∧ a' ≤ A0 + cqT D rg f ∧ (∀ g, g < f + 1 → FCO D rg cd a' σ' g) ∧ (∀ h', h' < D.bF (f + 1) → HCO D rg cd a' σ' h') := by
  obtain ⟨u1, u2, u3, u4, u5, u6⟩ := hE.up hf
  have hb := hE.1.1
  have hPf := hE.1.2.2 f hf
  have r49 := (hE.2.1.1 f hf).1.2.2.2.2.2
  have call := fun k => cqN_all (D := D) (rg := rg) (cd := cd) (f := f) k (D.bP f) (D.bP (f + 1) - D.bP f)
  have hT : cqT D rg f = sumF (cqA rg f) (D.bP f) (D.bP (f + 1) - D.bP f) + (D.bF (f + 1) - D.bF f) + 1 := rfl
  intro j
  induction j with
  | zero =>
    intro h a cf σ hj hb' hC ha hFC hHC
    have w := hC.2.2.2.2.2.2.1
    refine ⟨σ, a, cf, .int (i32 (h : Int)), ?_, hC, ?_, hFC, fun h' hh => hHC h' (by omega)⟩
    · rw [e197_151 (d + 306), hC.2.2.2.2.1, c_in (by omega) (by omega) (by omega), i32_ixn (by omega), w.1 49 rfl, r49, c2_ge (by omega) (by omega) (by omega) (by omega), c_t (by omega)]
    · have := call (h - D.bF f)
      rw [show h = D.bF (f + 1) by omega] at *
      omega
  | succ j ih =>
    intro h a cf σ hj hb' hC ha hFC hHC
    have w := hC.2.2.2.2.2.2.1
    obtain ⟨p, p1, p2, p3, p4⟩ := hPf.2.2.2.2.1 h hb' (by omega)
    have hp := hPf.2.2.1 p p1 p2
    obtain ⟨k0, hkd⟩ := kd_one (D := D) (p := p) (by rw [hp.2.2.1 (by omega), p3]; rfl)
    have hkw : (D.kd p)[0]? = some k0 := by rw [hkd]; rfl
    obtain ⟨z1, z2, z3, z4⟩ := contN.at _ _ _ _ _ hp.2.1 hkw
    have hslk := hp.2.2.2.2.2.1 0 k0 hkw
    have sn0 : D.sn p 0 = [D.gv h] := by unfold pgD.sn; rw [if_pos p3, p4]
    rw [sn0] at hslk
    have hW := hE.2.2.2.2.2.1.2 p (by omega)
    have hvo := hW.2.1 p3
    rw [p4] at hvo
    have hfn : cd.fn D k0 = (h : Int) := by
      show (match D.sl k0 with | [] => -1 | v :: _ => cd.vo v) = _
      rw [hslk]; exact hvo
    have hgk : cd.hg k0 = 2 := by
      rw [hE.2.2.1.2.1 f p 0 k0 hf p1 p2 hkw]; unfold hgw; rw [if_pos p3]
    have hslv := (hE.2.2.1.2.2.2 f p hf p1 p2).1 p3
    rw [p4] at hslv
    have hbd := hp.2.2.2.2.2.2.2 (D.gv h) (by unfold pgD.bd; rw [if_pos p3, p4]; exact List.mem_cons_self)
    obtain ⟨q27, q36, _, q35⟩ := (hE.2.1.2 p (by omega)).2.2.2.2.2.1 p3
    rw [p4] at q27 q36 q35
    have r20 : rd σ0 20 p = i32 (k0 : Int) := by
      have := ((hE.2.1.2 p (by omega)).2.1 (by omega) 0 (by omega)).1
      rw [hkd] at this; exact this
    have hst := hp.1.2.2.1
    -- the cost
    have cs := cqN_succ (D := D) (rg := rg) (cd := cd) (f := f) (h - D.bF f) (D.bP f) (D.bP (f + 1) - D.bP f)
    rw [show D.bF f + (h - D.bF f) = h by omega] at cs
    have ck := sumF_sub (w := cqF D rg cd f (h : Int)) (s := D.bP f) (s' := D.st k0) (n := D.bP (f + 1) - D.bP f) (n' := k0 + 1 - D.st k0) (by omega) (by omega)
    have ca := call (h - D.bF f + 1)
    -- states
    have C1 : CDS K1 K2 N C c f (h : Int) a σ0 (wr σ 94 10 (i32 (h : Int))) := hC.fld
    have C2 : CDS K1 K2 N C c f (h : Int) a σ0 (wr (wr σ 94 10 (i32 (h : Int))) 97 h (i32 (a : Int))) := C1.row (by omega)
    have C3 : CDS K1 K2 N C c f (h : Int) a σ0 (wr (wr (wr σ 94 10 (i32 (h : Int))) 97 h (i32 (a : Int))) 98 h (i32 (f : Int))) := C2.row (by omega)
    have C4 : CDS K1 K2 N C c f (h : Int) a σ0 (wr (wr (wr (wr σ 94 10 (i32 (h : Int))) 97 h (i32 (a : Int))) 98 h (i32 (f : Int))) 99 (D.gv h) 1) := C3.row (by omega)
    obtain ⟨s4, hs4⟩ : ∃ s4, s4 = wr (wr (wr (wr σ 94 10 (i32 (h : Int))) 97 h (i32 (a : Int))) 98 h (i32 (f : Int))) 99 (D.gv h) 1 := ⟨_, rfl⟩
    rw [← hs4] at C4
    have g95 : ∀ i, rd s4 95 i = rd σ 95 i := fun i => by rw [hs4, wr_nek (by decide), wr_nek (by decide), wr_nek (by decide), wr_nek (by decide)]
    have g96 : ∀ i, rd s4 96 i = rd σ 96 i := fun i => by rw [hs4, wr_nek (by decide), wr_nek (by decide), wr_nek (by decide), wr_nek (by decide)]
    have g97 : ∀ i, i ≠ h → rd s4 97 i = rd σ 97 i := fun i hi => by rw [hs4, wr_nek (by decide), wr_nek (by decide), wr_nei hi, wr_nek (by decide)]
    have g98 : ∀ i, i ≠ h → rd s4 98 i = rd σ 98 i := fun i hi => by rw [hs4, wr_nek (by decide), wr_nei hi, wr_nek (by decide), wr_nek (by decide)]
    have s97 : rd s4 97 h = i32 (a : Int) := by rw [hs4, wr_nek (by decide), wr_nek (by decide), wr_self]
    have s98 : rd s4 98 h = i32 (f : Int) := by rw [hs4, wr_nek (by decide), wr_self]
    have s99 : rd s4 99 (D.gv h) = i32 (cd.sl (D.gv h) : Int) := by rw [hs4, wr_self, hslv]; rfl
    have hSL : SLS D cd (h : Int) k0 s4 := fun v hv ho => by
      rw [hslk] at hv
      rcases List.mem_cons.mp hv with e | e
      · rw [e]; exact s99
      · have := h2.2 p v (by omega) p3 e
        rw [p4] at this
        exact absurd ho this
    obtain ⟨s5, b, b1, b2, b3, b4, b5⟩ := part_code (L := L) (xs := xs) (K1 := K1) (K2 := K2) (C := C) hE hf 100 k0 a d s4 (by omega) (by omega) hfn (by omega) C4 hSL (by omega)
    have lt := CA.lt _ _ _ _ b3
    obtain ⟨s6, d1, d2, d3, d4, _⟩ := put_code (L := L) (xs := xs) (sl := cd.sl) b2 (by omega) 26 (d + 305)
    have a5 : ∀ i, i < a → rd s6 95 i = rd σ 95 i := fun i hi => by rw [d4.1 i (by omega), b4.1 i hi, g95]
    have a96 : ∀ i, rd s6 96 i = rd σ 96 i := fun i => by rw [d4.2.2 96 (by omega), b4.2.2 96 (by omega), g96]
    obtain ⟨s7, a', cf', v1, e1, e2, e3, e4, e5⟩ := ih (h + 1) (b + 1) (h : Int) s6 (by omega) (by omega) d2 (by rw [show h + 1 - D.bF f = h - D.bF f + 1 by omega]; omega) (fun g hg => (hFC g hg).go a5 (a96 g) (by omega)) (fun h' hh => by
      by_cases q : h' = h
      · subst q
        refine ⟨f, p, k0, a, b, hf, p1, p2, p3, p4, hkd, ?_, ?_, CA.to _ _ _ _ b3 (fun i i1 i2 => d4.1 i i2), d3, by omega⟩
        · rw [d4.2.2 97 (by omega), b4.2.2 97 (by omega)]; exact s97
        · rw [d4.2.2 98 (by omega), b4.2.2 98 (by omega)]; exact s98
      · refine (hHC h' (by omega)).go a5 ?_ ?_ (by omega)
        · rw [d4.2.2 97 (by omega), b4.2.2 97 (by omega), g97 h' q]
        · rw [d4.2.2 98 (by omega), b4.2.2 98 (by omega), g98 h' q])
    refine ⟨s7, a', cf', v1, ?_, e2, e3, e4, e5⟩
    have b1' : rn L xs (d + 306) 198 0 [.ref 94, .int (i32 (k0 : Int)), .int 2, jv, jv] [] s4 = some (.inl none, s5) := by
      have := b1
      rw [hgk] at this
      exact this
    rw [e197_151 (d + 306), hC.2.2.2.2.1, c_in (by omega) (by omega) (by omega), i32_ixn (by omega), w.1 49 rfl, r49, c2_ge (by omega) (by omega) (by omega) (by omega), c_f (by omega), c_in (by omega) (by omega) (by omega), c_in (by omega) (by omega) (by omega), c_in (by omega) (by omega) (by omega), i32_ixn (by omega), w.1 36 rfl, q36, c_in (by omega) (by omega) (by omega), c_in (by omega) (by omega) (by omega), w.1 35 rfl, q35, c_in (by omega) (by omega) (by omega), i32_ixn (by omega), i32_ixn (by omega), w.1 20 rfl, r20, hC.2.2.1, ← hs4, bV_ok b1', bV_ok d1, i32_up]
    exact e1
end MAKE
