/-! WHAT ARROWS HOLD IN THE END: the least that is closed; and the component comes to it -/
/-- all parts up to b that have a put within reach it -/
def OUTq (D : pgD) (f : Nat) (G : tG) (r : Nat → Nat) (Bs : Nat → Nat → Prop) (Q : Nat → Nat → Prop) (q x b : Nat) : Prop := ∀ p, D.bP f ≤ p → p < D.bP (f + 1) → p ≤ b → spn D p q → RQ G r (fun t v => Q t (r v)) (Bs p) x ∧ 2 ≤ G.1 (r x)
/-- closed: what was held, what is captured, what is put within and goes beyond, what goes beyond all where the function calls itself -/
def CLS (D : pgD) (f : Nat) (G : tG) (r : Nat → Nat) (h0 : Nat → Nat → Prop) (Bs : Nat → Nat → Prop) (np : Nat → Nat) (pn : Nat → Nat → Nat) (ar by' : Nat → Nat) (sf : Nat → Prop) (cap : Nat → Nat → Prop) (Q : Nat → Nat → Prop) : Prop :=
  (∀ t v, r t = t → h0 t v → Q t (r v)) ∧ (∀ j v, D.bF f ≤ j → j < D.bF (f + 1) → cap j v → G.1 (r v) ≠ 1 → Q (r (ar j)) (r v)) ∧
  (∀ j q i, D.bF f ≤ j → j < D.bF (f + 1) → spn D (by' j) q → i < np q → OUTq D f G r Bs Q q (pn q i) (by' j) → G.1 (r (pn q i)) ≠ 1 → Q (r (ar j)) (r (pn q i))) ∧
  (∀ j q i, D.bF f ≤ j → j < D.bF (f + 1) → sf j → D.bP f ≤ q → q < D.bP (f + 1) → i < np q → OUTq D f G r Bs Q q (pn q i) (D.bP (f + 1)) → G.1 (r (pn q i)) ≠ 1 → Q (r (ar j)) (r (pn q i)))
def LFP (D : pgD) (f : Nat) (G : tG) (r : Nat → Nat) (h0 : Nat → Nat → Prop) (Bs : Nat → Nat → Prop) (np : Nat → Nat) (pn : Nat → Nat → Nat) (ar by' : Nat → Nat) (sf : Nat → Prop) (cap : Nat → Nat → Prop) (t v : Nat) : Prop := ∀ Q : Nat → Nat → Prop, CLS D f G r h0 Bs np pn ar by' sf cap Q → Q t v
theorem RQ.le {G : tG} {r : Nat → Nat} {h h' : Nat → Nat → Prop} {B : Nat → Prop} {y : Nat} (q : RQ G r h B y) (hI : ∀ x, r (r x) = r x) (hh : ∀ t v, r t = t → h t v → ∃ v', h' t v' ∧ r v' = r v) : RQ G r h' B y := fun X x1 x2 x3 x4 => q X x1 x2 (fun x u hx hu => by
  obtain ⟨v', a1, a2⟩ := hh (r x) u (hI x) hu
  exact x1 v' u a2 (x3 x v' hx a1)) x4
theorem OUTq.le {D : pgD} {f : Nat} {G : tG} {r : Nat → Nat} {Bs : Nat → Nat → Prop} {Q Q' : Nat → Nat → Prop} {q x b : Nat} (h : OUTq D f G r Bs Q q x b) (hI : ∀ x, r (r x) = r x) (hh : ∀ t v, Q t v → Q' t v) : OUTq D f G r Bs Q' q x b := fun p h1 h2 h3 h4 => ⟨(h p h1 h2 h3 h4).1.le hI (fun t v _ k => ⟨v, hh _ _ k, rfl⟩), (h p h1 h2 h3 h4).2⟩
theorem LFP.cls {D : pgD} {f : Nat} {G : tG} {r : Nat → Nat} {h0 : Nat → Nat → Prop} {Bs : Nat → Nat → Prop} {np : Nat → Nat} {pn : Nat → Nat → Nat} {ar by' : Nat → Nat} {sf : Nat → Prop} {cap : Nat → Nat → Prop} (hI : ∀ x, r (r x) = r x) : CLS D f G r h0 Bs np pn ar by' sf cap (LFP D f G r h0 Bs np pn ar by' sf cap) := by
  refine ⟨fun t v e k Q hQ => hQ.1 t v e k, fun j v h1 h2 h3 h4 Q hQ => hQ.2.1 j v h1 h2 h3 h4, fun j q i h1 h2 h3 h4 h5 h6 Q hQ => hQ.2.2.1 j q i h1 h2 h3 h4 (h5.le hI (fun t v k => k Q hQ)) h6, fun j q i h1 h2 h3 h3' h3'' h4 h5 h6 Q hQ => hQ.2.2.2 j q i h1 h2 h3 h3' h3'' h4 (h5.le hI (fun t v k => k Q hQ)) h6⟩
section FIXC
variable {L : Nat} {xs : Nat → Int32} {σ σ' σ0 τ : tvS} {D : pgD} {m f : Nat}
variable {K1 K2 N : Nat} {C : tG} {c : Nat → Nat} {H1 S n M : Nat} {pe ar : Nat → Nat} {A : Nat → Nat → Prop}
/-- puts by their parts -/
def PUTS (D : pgD) (f n : Nat) (fr pe np : Nat → Nat) (pn : Nat → Nat → Nat) : Prop := (∀ q, D.bP f ≤ q → q < D.bP (f + 1) → fr (q + 1) = fr q + np q) ∧ ∀ q i, D.bP f ≤ q → q < D.bP (f + 1) → i < np q → pe (fr q + i) = pn q i
theorem PUTS.of {fr np : Nat → Nat} {pn : Nat → Nat → Nat} (h : PUTS D f n fr pe np pn) : ∀ (j q0 k : Nat), q0 + j = D.bP (f + 1) → D.bP f ≤ q0 → fr q0 ≤ k → k < fr (D.bP (f + 1)) → ∃ q i, q0 ≤ q ∧ q < D.bP (f + 1) ∧ i < np q ∧ k = fr q + i ∧ pe k = pn q i := by
  intro j
  induction j with
  | zero =>
    intro q0 k e h1 h2 h3
    rw [show q0 = D.bP (f + 1) by omega] at h2; omega
  | succ j ih =>
    intro q0 k e h1 h2 h3
    have e1 := h.1 q0 h1 (by omega)
    by_cases c1 : k < fr (q0 + 1)
    · refine ⟨q0, k - fr q0, Nat.le_refl _, by omega, by omega, by omega, ?_⟩
      have := h.2 q0 (k - fr q0) h1 (by omega) (by omega)
      rw [show fr q0 + (k - fr q0) = k by omega] at this
      exact this
    · obtain ⟨q, i, a1, a2, a3, a4, a5⟩ := ih (q0 + 1) k (by omega) (by omega) (by omega) h3
      exact ⟨q, i, by omega, a2, a3, a4, a5⟩
theorem PUTS.in {fr np : Nat → Nat} {pn : Nat → Nat → Nat} (h : PUTS D f n fr pe np pn) (hm : ∀ p q, D.bP f ≤ p → p ≤ q → q ≤ D.bP (f + 1) → fr p ≤ fr q) {p q i : Nat} (p1 : D.bP f ≤ D.st p) (p2 : D.st p ≤ p) (p3 : p < D.bP (f + 1)) (q1 : D.bP f ≤ q) (q2 : q < D.bP (f + 1)) (hi : i < np q) : (fr (D.st p) ≤ fr q + i ∧ fr q + i < fr (p + 1)) ↔ spn D p q := by
  have e1 := h.1 q q1 q2
  constructor
  · rintro ⟨a, b⟩
    refine ⟨Classical.byContradiction (fun k => ?_), Classical.byContradiction (fun k => ?_)⟩
    · have := hm (q + 1) (D.st p) (by omega) (by omega) (by omega); omega
    · have := hm (p + 1) q (by omega) (by omega) (by omega); omega
  · rintro ⟨a, b⟩
    have := hm (D.st p) q p1 a (by omega)
    have := hm (q + 1) (p + 1) (by omega) (by omega) (by omega)
    omega
/-- an owner beyond b: all parts up to b reach it -/
theorem OWp.out {fr np : Nat → Nat} {pn : Nat → Nat → Nat} {h : Nat → Nat → Prop} {k q i : Nat} {o : Int} {b : Nat} (hP : PUTS D f n fr pe np pn) (hm : ∀ p q, D.bP f ≤ p → p ≤ q → q ≤ D.bP (f + 1) → fr p ≤ fr q) (hPf : PFf D m f) (q1 : D.bP f ≤ q) (q2 : q < D.bP (f + 1)) (hi : i < np q) (ek : k = fr q + i) (hO : OWp D f fr (fun p => rBx D f C c h σ0 p (pe k)) (D.bP (f + 1)) k o) : (o = -1 ∨ (b : Int) < o) ↔ ∀ p, D.bP f ≤ p → p < D.bP (f + 1) → p ≤ b → spn D p q → rBx D f C c h σ0 p (pe k) := by
  have hin : ∀ p, D.bP f ≤ p → p < D.bP (f + 1) → ((fr (D.st p) ≤ k ∧ k < fr (p + 1)) ↔ spn D p q) := fun p h1 h2 => by
    have hp := hPf.2.2.1 p h1 h2
    rw [ek]
    exact hP.in hm hp.1.2.2.1 hp.1.2.2.2 h2 q1 q2 hi
  rcases hO with ⟨a1, a2⟩ | ⟨p0, a1, a2, a3, a4, a5, a6, a7⟩
  · refine ⟨fun _ p h1 h2 _ h4 => ?_, fun _ => .inl a1⟩
    have := (hin p h1 h2).mpr h4
    exact a2 p h2 h1 this.1 this.2
  · refine ⟨fun hb p h1 h2 h3 h4 => ?_, fun hb => ?_⟩
    · have := (hin p h1 h2).mpr h4
      exact a7 p (by omega) h1 this.1 this.2
    · refine .inr (Classical.byContradiction (fun k => ?_))
      exact a6 (hb p0 a2 a1 (by omega) ((hin p0 a2 a1).mp ⟨a4, a5⟩))
theorem hLe.out {np : Nat → Nat} {h Q : Nat → Nat → Prop} {q x b : Nat} (hI : ∀ x, c (c x) = c x) (hl : hLe c h Q) (ho : ∀ p, D.bP f ≤ p → p < D.bP (f + 1) → p ≤ b → spn D p q → rBx D f C c h σ0 p x) : OUTq D f C c (Bsh D f σ0) Q q x b := fun p h1 h2 h3 h4 => ⟨(ho p h1 h2 h3 h4).1.le hI (fun t v e k => ⟨v, hl t v e k, rfl⟩), (ho p h1 h2 h3 h4).2⟩
def FWL : List Nat := [55, 56, 59, 60, 52, 57, 61, 76]
/-- between two rounds -/
def WLI (K1 K2 N : Nat) (C : tG) (c : Nat → Nat) (H1 S n : Nat) (pe ar : Nat → Nat) (A : Nat → Nat → Prop) (NL : List (Nat × Nat)) (h : Nat → Nat → Prop) (σ0 σ : tvS) : Prop :=
  CT K1 K2 N C c h (H1 + NL.length) S σ ∧ QP n pe σ ∧ NL.Nodup ∧ (∀ e, e ∈ NL → A e.1 e.2 ∧ ∃ v, h (c (ar e.1)) v ∧ c v = e.2) ∧ frT FWL [59, 60, 61] [11, 12, 14, 15] σ0 σ ∧ ∀ i, i < n → ∃ o : Int, rd σ 76 i = i32 o ∧ -2147483648 ≤ o ∧ o < 2147483648
theorem fix_c {pt by' fr np sv : Nat → Nat} {pn : Nat → Nat → Nat} {h0 : Nat → Nat → Prop} {cap : Nat → Nat → Prop} (hF : PGF D m) (hf : f ≤ D.fc) (hR : PGR D σ0 τ) (hsc : ∀ p, D.bP f ≤ p → p < D.bP (f + 1) → chC σ0 (D.sl p) (rd σ0 28 p)) (hty : TYc D f N σ0) (hpt : FNP D f pt by') (hfr : FRm D f n fr σ0) (hPU : PUTS D f n fr pe np pn) (hsv : ∀ p, D.bP f ≤ p → p ≤ D.bP (f + 1) → rd σ0 78 p = i32 (sv p : Int) ∧ sv p ≤ 5000) (hA : ∀ l : List (Nat × Nat), l.Nodup → (∀ e, e ∈ l → A e.1 e.2) → l.length ≤ M) (hM : H1 + M < 212992) (hI2 : ∀ x, c (c x) = c x) (har : ∀ j, D.bF f ≤ j → j < D.bF (f + 1) → rd σ0 66 (pt j) = i32 (ar j : Int) ∧ ar j < N ∧ C.1 (c (ar j)) = 4) (hpe : ∀ i, i < n → pe i < N) (hAp : ∀ j i, D.bF f ≤ j → j < D.bF (f + 1) → fr (D.bP f) ≤ i → i < n → C.1 (c (pe i)) ≠ 1 → A j (c (pe i))) (d : Nat) :
    ∀ (i S : Nat) (σ : tvS) (NL : List (Nat × Nat)) (h : Nat → Nat → Prop) (v3 v5 : Value), M ≤ NL.length + i → S + 2 * (D.bP (f + 1) - D.bP f) * (i + 1) < 2147483648 → WLI K1 K2 N C c H1 S n pe ar A NL h σ0 σ → hLe c h (LFP D f C c h0 (Bsh D f σ0) np pn ar by' (fun j => sv (by' j + 1) ≠ sv (D.st (by' j))) cap) →
    ∃ (σ' : tvS) (S' : Nat) (NL' : List (Nat × Nat)) (h' : Nat → Nat → Prop) (ow : Nat → Int) (w3 w5 : Value), rn L xs (d + 5) 163 183 [.ref 74, .int (i32 (f : Int)), .int (i32 (fr (D.bP f) : Int)), v3, .int 1, v5] [] σ = rn L xs (d + 5) 163 205 [.ref 74, .int (i32 (f : Int)), .int (i32 (fr (D.bP f) : Int)), w3, .int 0, w5] [] σ' ∧ S ≤ S' ∧ S' ≤ S + 2 * (D.bP (f + 1) - D.bP f) * (i + 1) ∧ WLI K1 K2 N C c H1 S' n pe ar A NL' h' σ0 σ' ∧ hGe c h h' ∧ hLe c h' (LFP D f C c h0 (Bsh D f σ0) np pn ar by' (fun j => sv (by' j + 1) ≠ sv (D.st (by' j))) cap) ∧ (∀ i, i < n → rd σ' 76 i = i32 (ow i) ∧ -2147483648 ≤ ow i ∧ ow i < 2147483648) ∧ (∀ k, fr (D.bP f) ≤ k → k < n → OWp D f fr (fun p => rBx D f C c h' σ0 p (pe k)) (D.bP (f + 1)) k (ow k)) ∧
      (∀ j', D.bF f ≤ j' → j' < D.bF (f + 1) → (∀ q, fr (D.st (by' j')) ≤ q → q < fr (by' j' + 1) → (ow q = -1 ∨ (by' j' : Int) < ow q) → Hd C c h' (ar j') (pe q)) ∧ (sv (by' j' + 1) ≠ sv (D.st (by' j')) → ∀ q, fr (D.bP f) ≤ q → q < n → ow q = -1 → Hd C c h' (ar j') (pe q))) := by
  have hb4 := hF.1
  have hbl := (hF.le (D.fc + 1 - (f + 1)) (f + 1) (by omega))
  have hPf := hF.2.2 f hf
  obtain ⟨f1, f2, f3, f4⟩ := id hfr
  have hlt := hPf.1.1
  have lfc := LFP.cls (D := D) (f := f) (G := C) (r := c) (h0 := h0) (Bs := Bsh D f σ0) (np := np) (pn := pn) (ar := ar) (by' := by') (sf := fun j => sv (by' j + 1) ≠ sv (D.st (by' j))) (cap := cap) hI2
  have lo := f2 (D.bP f) (D.bP (f + 1)) (Nat.le_refl _) (by have := hPf.1.1; omega) (Nat.le_refl _)
  rw [f3] at lo
  intro i
  induction i with
  | zero =>
    intro S σ NL h v3 v5 hi hS hW hl
    obtain ⟨w1, w2, w3', w4, w5', w6⟩ := id hW
    obtain ⟨s1, S1, ow, a1, a2, a3, a4, a5, a6, a7, a8⟩ := owns_c (L := L) (xs := xs) hF hf hR hsc hty hfr hpe (by omega) w1 w2 (w5'.sub rfl rfl rfl) (fun i hi => w6 i (by omega)) d jv jv jv jv
    have e0 : frT FWL [59, 60, 61] [11, 12, 14, 15] σ0 s1 := w5'.trans (a8.sub rfl rfl rfl)
    have hR1 : PGR D s1 τ := hR.fr (S' := []) (F' := []) e0 frM.refl rfl rfl
    have hq : ∀ j i, D.bF f ≤ j → j < D.bF (f + 1) → fr (D.st (by' j)) ≤ i → i < fr (by' j + 1) → (ow i = -1 ∨ (by' j : Int) < ow i) → C.1 (c (pe i)) ≠ 1 → LFP D f C c h0 (Bsh D f σ0) np pn ar by' (fun j => sv (by' j + 1) ≠ sv (D.st (by' j))) cap (c (ar j)) (c (pe i)) := fun j k j1 j2 k1 k2 k3 k4 => by
      obtain ⟨_, _, _, g4, g5, g6, g7⟩ := hR.fn hF hf hpt j1 j2
      obtain ⟨p1, p2, _⟩ := hpt j j1 j2
      have l1 := f2 (D.bP f) (D.st (by' j)) (Nat.le_refl _) g4 (by omega)
      have l2 := f2 (by' j + 1) (D.bP (f + 1)) (by omega) (by omega) (Nat.le_refl _)
      obtain ⟨q, i', b1, b2, b3, b4, b5⟩ := hPU.of (D.bP (f + 1) - D.bP f) (D.bP f) k (by omega) (Nat.le_refl _) (by omega) (by omega)
      have sp := (hPU.in f2 (p := by' j) g4 g5 (by omega) b1 b2 b3).mp (by rw [← b4]; exact ⟨k1, k2⟩)
      have out := (OWp.out (b := by' j) hPU f2 hPf b1 b2 b3 b4 (a7 k (by omega) (by omega))).mp k3
      rw [b5] at k4 out ⊢
      exact lfc.2.2.1 j q i' j1 j2 sp b3 (hLe.out (np := np) hI2 hl out) k4
    have hq2 : ∀ j i, D.bF f ≤ j → j < D.bF (f + 1) → sv (by' j + 1) ≠ sv (D.st (by' j)) → fr (D.bP f) ≤ i → i < n → ow i = -1 → C.1 (c (pe i)) ≠ 1 → LFP D f C c h0 (Bsh D f σ0) np pn ar by' (fun j => sv (by' j + 1) ≠ sv (D.st (by' j))) cap (c (ar j)) (c (pe i)) := fun j k j1 j2 js k1 k2 k3 k4 => by
      obtain ⟨q, i', b1, b2, b3, b4, b5⟩ := hPU.of (D.bP (f + 1) - D.bP f) (D.bP f) k (by omega) (Nat.le_refl _) k1 (by omega)
      have out := (OWp.out (b := D.bP (f + 1)) hPU f2 hPf b1 b2 b3 b4 (a7 k k1 k2)).mp (.inl k3)
      rw [b5] at k4 out ⊢
      exact lfc.2.2.2 j q i' j1 j2 js b1 b2 b3 (hLe.out (np := np) hI2 hl out) k4
    obtain ⟨s2, NL2, h2, y2, b1, b2, b3, b4⟩ := holds_c (L := L) (xs := xs) (σ0 := s1) (H1 := H1) (S := S1) (ow := ow) (NL := NL) (h := h) hF hf hR1 hpt ⟨fun p h1 h2 => by rw [e0.rd (j := 77) rfl]; exact f1 p h1 h2, f2, f3, f4⟩ (fun p h1 h2 => by rw [e0.rd (j := 78) rfl]; exact hsv p h1 h2) hA hM hI2 (fun j h1 h2 => by rw [e0.rd (j := 66) rfl]; exact har j h1 h2) hpe hAp a6 hq hq2 ⟨a4, a5, w3', w4, frT.refl⟩ hl d jv jv jv jv jv jv
    obtain ⟨⟨c1, c2, c3, c4, c5⟩, c6, c7, c8, c9⟩ := b3
    have hlen := hA NL2 c3 (fun e he => (c4 e he).1)
    rcases c9 with ⟨e1, e2, e3⟩ | ⟨e1, e2⟩
    · subst e1; subst e2; subst e3
      refine ⟨s2, S1, NL2, h2, ow, jk (dj (dj v3)), dj (dj v5), ?_, a2, by omega, ⟨c1, c2, c3, c4, e0.trans (c5.sub rfl rfl rfl), fun i hi => ⟨ow i, by rw [c5.rd (j := 76) rfl]; exact (a6 i hi).1, (a6 i hi).2⟩⟩, c6, c7, fun i hi => by rw [c5.rd (j := 76) rfl]; exact a6 i hi, a7, b4⟩
      rw [e163_183 (d + 4), show pv_c1 .eq (1 : Int32) = false from rfl, cond_false, bV_ok a1, bI_ok b1, e163_183, show pv_c1 .eq (0 : Int32) = true from rfl, cond_true]
    · omega
  | succ i ih =>
    intro S σ NL h v3 v5 hi hS hW hl
    have hmul : 2 * (D.bP (f + 1) - D.bP f) * (i + 1 + 1) = 2 * (D.bP (f + 1) - D.bP f) * (i + 1) + 2 * (D.bP (f + 1) - D.bP f) := by rw [Nat.mul_add]; omega
    rw [hmul] at hS
    obtain ⟨w1, w2, w3', w4, w5', w6⟩ := id hW
    obtain ⟨s1, S1, ow, a1, a2, a3, a4, a5, a6, a7, a8⟩ := owns_c (L := L) (xs := xs) hF hf hR hsc hty hfr hpe (by omega) w1 w2 (w5'.sub rfl rfl rfl) (fun i hi => w6 i (by omega)) d jv jv jv jv
    have e0 : frT FWL [59, 60, 61] [11, 12, 14, 15] σ0 s1 := w5'.trans (a8.sub rfl rfl rfl)
    have hR1 : PGR D s1 τ := hR.fr (S' := []) (F' := []) e0 frM.refl rfl rfl
    have hq : ∀ j i, D.bF f ≤ j → j < D.bF (f + 1) → fr (D.st (by' j)) ≤ i → i < fr (by' j + 1) → (ow i = -1 ∨ (by' j : Int) < ow i) → C.1 (c (pe i)) ≠ 1 → LFP D f C c h0 (Bsh D f σ0) np pn ar by' (fun j => sv (by' j + 1) ≠ sv (D.st (by' j))) cap (c (ar j)) (c (pe i)) := fun j k j1 j2 k1 k2 k3 k4 => by
      obtain ⟨_, _, _, g4, g5, g6, g7⟩ := hR.fn hF hf hpt j1 j2
      obtain ⟨p1, p2, _⟩ := hpt j j1 j2
      have l1 := f2 (D.bP f) (D.st (by' j)) (Nat.le_refl _) g4 (by omega)
      have l2 := f2 (by' j + 1) (D.bP (f + 1)) (by omega) (by omega) (Nat.le_refl _)
      obtain ⟨q, i', b1, b2, b3, b4, b5⟩ := hPU.of (D.bP (f + 1) - D.bP f) (D.bP f) k (by omega) (Nat.le_refl _) (by omega) (by omega)
      have sp := (hPU.in f2 (p := by' j) g4 g5 (by omega) b1 b2 b3).mp (by rw [← b4]; exact ⟨k1, k2⟩)
      have out := (OWp.out (b := by' j) hPU f2 hPf b1 b2 b3 b4 (a7 k (by omega) (by omega))).mp k3
      rw [b5] at k4 out ⊢
      exact lfc.2.2.1 j q i' j1 j2 sp b3 (hLe.out (np := np) hI2 hl out) k4
    have hq2 : ∀ j i, D.bF f ≤ j → j < D.bF (f + 1) → sv (by' j + 1) ≠ sv (D.st (by' j)) → fr (D.bP f) ≤ i → i < n → ow i = -1 → C.1 (c (pe i)) ≠ 1 → LFP D f C c h0 (Bsh D f σ0) np pn ar by' (fun j => sv (by' j + 1) ≠ sv (D.st (by' j))) cap (c (ar j)) (c (pe i)) := fun j k j1 j2 js k1 k2 k3 k4 => by
      obtain ⟨q, i', b1, b2, b3, b4, b5⟩ := hPU.of (D.bP (f + 1) - D.bP f) (D.bP f) k (by omega) (Nat.le_refl _) k1 (by omega)
      have out := (OWp.out (b := D.bP (f + 1)) hPU f2 hPf b1 b2 b3 b4 (a7 k k1 k2)).mp (.inl k3)
      rw [b5] at k4 out ⊢
      exact lfc.2.2.2 j q i' j1 j2 js b1 b2 b3 (hLe.out (np := np) hI2 hl out) k4
    obtain ⟨s2, NL2, h2, y2, b1, b2, b3, b4⟩ := holds_c (L := L) (xs := xs) (σ0 := s1) (H1 := H1) (S := S1) (ow := ow) (NL := NL) (h := h) hF hf hR1 hpt ⟨fun p h1 h2 => by rw [e0.rd (j := 77) rfl]; exact f1 p h1 h2, f2, f3, f4⟩ (fun p h1 h2 => by rw [e0.rd (j := 78) rfl]; exact hsv p h1 h2) hA hM hI2 (fun j h1 h2 => by rw [e0.rd (j := 66) rfl]; exact har j h1 h2) hpe hAp a6 hq hq2 ⟨a4, a5, w3', w4, frT.refl⟩ hl d jv jv jv jv jv jv
    obtain ⟨⟨c1, c2, c3, c4, c5⟩, c6, c7, c8, c9⟩ := b3
    have hW2 : WLI K1 K2 N C c H1 S1 n pe ar A NL2 h2 σ0 s2 := ⟨c1, c2, c3, c4, e0.trans (c5.sub rfl rfl rfl), fun i hi => ⟨ow i, by rw [c5.rd (j := 76) rfl]; exact (a6 i hi).1, (a6 i hi).2⟩⟩
    rcases c9 with ⟨e1, e2, e3⟩ | ⟨e1, e2⟩
    · subst e1; subst e2; subst e3
      refine ⟨s2, S1, NL2, h2, ow, jk (dj (dj v3)), dj (dj v5), ?_, a2, by rw [hmul]; omega, hW2, c6, c7, fun i hi => by rw [c5.rd (j := 76) rfl]; exact a6 i hi, a7, b4⟩
      rw [e163_183 (d + 4), show pv_c1 .eq (1 : Int32) = false from rfl, cond_false, bV_ok a1, bI_ok b1, e163_183, show pv_c1 .eq (0 : Int32) = true from rfl, cond_true]
    · subst e1
      obtain ⟨σ', S', NL', h', ow', u3, u5, z1, z2, z3, z4, z5, z6, z7, z8, z9⟩ := ih S1 s2 NL2 h2 (jk (dj (dj v3))) (dj (dj v5)) (by omega) (by omega) hW2 c7
      refine ⟨σ', S', NL', h', ow', u3, u5, ?_, by omega, by rw [hmul]; omega, z4, fun t v e k => z5 t v e (c6 t v e k), z6, z7, z8, z9⟩
      rw [e163_183 (d + 4), show pv_c1 .eq (1 : Int32) = false from rfl, cond_false, bV_ok a1, bI_ok b1]
      exact z1
end FIXC
