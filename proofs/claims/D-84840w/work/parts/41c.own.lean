/-! TYPING, BOTH: the state in the midst of a function; a part's own type -/
theorem kid_at {l : List Nat} {w c : Nat} (h : l[w]? = some c) : kid l w = i32 (c : Int) := by unfold kid; rw [h]
theorem contN.at {st : Nat → Nat} : ∀ (l : List Nat) (s p w c : Nat), contN st s l p → l[w]? = some c → s ≤ st c ∧ st c ≤ c ∧ c < p ∧ ∀ w0 c0 : Nat, w0 < w → l[w0]? = some c0 → c0 < st c := by
  intro l
  induction l with
  | nil => intro s p w c _ h; simp at h
  | cons k r ih =>
    intro s p w c h hw
    obtain ⟨a1, a2, a3, a4⟩ := h
    cases w with
    | zero =>
      have hw : k = c := Option.some.inj hw
      subst hw
      exact ⟨by omega, by omega, a3, fun w0 c0 h0 => absurd h0 (Nat.not_lt_zero _)⟩
    | succ w =>
      have hw : r[w]? = some c := hw
      obtain ⟨b1, b2, b3, b4⟩ := ih (k + 1) p w c a4 hw
      refine ⟨by omega, b2, b3, fun w0 c0 h0 h1 => ?_⟩
      cases w0 with
      | zero =>
        have h1 : k = c0 := Option.some.inj h1
        omega
      | succ w0 => exact b4 w0 c0 (by omega) h1
theorem pls_bd {V v : Nat} : ∀ {k : Nat}, v ∈ pls V k → V ≤ v ∧ v < V + k := by
  intro k
  induction k with
  | zero => intro h; cases h
  | succ k ih =>
    intro h
    rcases List.mem_cons.mp (show v ∈ (V + k) :: pls V k from h) with e | e
    · omega
    · have := ih e; omega
/-- variables that are typed once the parts before s have their places -/
def tvd (D : pgD) (f s v : Nat) : Prop := (D.tV f ≤ v ∧ v < D.tV f + D.bk f) ∨ (∃ h, D.bF f ≤ h ∧ h < D.bF (f + 1) ∧ v = D.gv h) ∨ ∃ r c : Nat, D.bP f ≤ r ∧ r < D.bP (f + 1) ∧ (D.K r = 19 ∨ D.K r = 20) ∧ (D.kd r)[0]? = some c ∧ c < s ∧ v ∈ D.bd r
theorem tvd.mono {D : pgD} {f s s' v : Nat} (h : tvd D f s v) (hs : s ≤ s') : tvd D f s' v := by
  rcases h with h | h | ⟨r, c, h1, h2, h3, h4, h5, h6⟩
  · exact .inl h
  · exact .inr (.inl h)
  · exact .inr (.inr ⟨r, c, h1, h2, h3, h4, by omega, h6⟩)
theorem get_lt {l : List Nat} {w : Nat} (h : w < l.length) : ∃ c, l[w]? = some c := ⟨l[w], List.getElem?_eq_getElem h⟩
theorem PFp.kid {D : pgD} {m f p w : Nat} (h : PFp D m f p) (hw : w < (D.kd p).length) : ∃ c, (D.kd p)[w]? = some c ∧ D.bP f ≤ c ∧ c < p := by
  obtain ⟨c, hc⟩ := get_lt hw
  obtain ⟨a1, a2, a3, _⟩ := contN.at _ _ _ _ _ h.2.1 hc
  have := h.1.2.2.1
  exact ⟨c, hc, by omega, a3⟩
/-- what is in scope is typed by then -/
theorem scp_typed {D : pgD} {m f : Nat} (hF : PFf D m f) : ∀ (n p : Nat), D.bP (f + 1) - p ≤ n → D.bP f ≤ p → p < D.bP (f + 1) → ∀ v, v ∈ D.sl p → tvd D f (D.st p) v := by
  obtain ⟨_, ⟨_, g2⟩, g3, g4, _⟩ := hF
  intro n
  induction n with
  | zero => intro p h1 h2 h3; omega
  | succ n ih =>
    intro p h1 h2 h3 v hv
    by_cases e : p + 1 < D.bP (f + 1)
    · obtain ⟨q, w, q1, q2, q3⟩ := g4 p h2 e
      have hq := g3 q (by omega) q2
      obtain ⟨b1, b2, b3, b4⟩ := contN.at _ _ _ _ _ hq.2.1 q3
      rw [hq.2.2.2.2.2.1 w p q3] at hv
      rcases List.mem_append.mp hv with hv | hv
      · unfold pgD.sn at hv
        by_cases k1 : D.K q = 17
        · rw [if_pos k1] at hv
          have := hq.2.2.2.2.2.2.1 k1
          exact .inr (.inl ⟨D.vl q, this.1, this.2, List.mem_singleton.mp hv⟩)
        · rw [if_neg k1] at hv
          by_cases k2 : D.K q = 19 ∧ w = 1
          · rw [if_pos k2] at hv
            have hl : (D.kd q).length = 2 := by rw [hq.2.2.1 (by omega), k2.1]; rfl
            obtain ⟨c, c1⟩ := get_lt (show 0 < (D.kd q).length by omega)
            exact .inr (.inr ⟨q, c, by omega, q2, .inl k2.1, c1, b4 0 c (by omega) c1, by unfold pgD.bd; rw [if_neg k1, if_pos k2.1]; exact hv⟩)
          · rw [if_neg k2] at hv
            by_cases k3 : D.K q = 20 ∧ w = 2
            · rw [if_pos k3] at hv
              have hl : (D.kd q).length = 3 := by rw [hq.2.2.1 (by omega), k3.1]; rfl
              obtain ⟨c, c1⟩ := get_lt (show 0 < (D.kd q).length by omega)
              refine .inr (.inr ⟨q, c, by omega, q2, .inr k3.1, c1, b4 0 c (by omega) c1, ?_⟩)
              unfold pgD.bd
              rw [if_neg k1, if_neg (by omega), if_pos k3.1]
              rcases List.mem_cons.mp hv with j | j
              · rw [j]; exact List.mem_cons_of_mem _ List.mem_cons_self
              · rw [List.mem_singleton.mp j]; exact List.mem_cons_self
            · rw [if_neg k3] at hv; cases hv
      · exact (ih q (by omega) (by omega) q2 v hv).mono b1
    · rw [show p = D.bP (f + 1) - 1 by omega, g2] at hv
      exact .inl (pls_bd hv)
section OWNSTEP
variable {L : Nat} {xs : Nat → Int32} {σ σ' τ τ' : tvS}
variable {K1 K2 Bc Bm f : Nat} {Rc Rm : Nat → Nat → Prop} {pd pd' : List (Nat × List Nat × (Nat → Nat))} {n u a rc rc' : Nat} {T T' T1 : tyJ} {D : pgD} {G : sgD} {m : Nat}
theorem TJ.less {n' u' a' rc' : Nat} (h : TJ K1 K2 Bc Bm f Rc Rm pd n u a rc T σ τ) (hn : n' ≤ n) (hu : u' ≤ u) (ha : a' ≤ a) (hr : rc' ≤ rc) : TJ K1 K2 Bc Bm f Rc Rm pd n' u' a' rc' T σ τ := by
  obtain ⟨h1, h2, h3, h4, b1, b2, b3, b4, b5, b6, b7⟩ := h
  exact ⟨h1, h2, h3, h4, by omega, by omega, by omega, by omega, by omega, by omega, by omega⟩
/-- types of parts below s, of variables, kinds, the result -/
def TYS (D : pgD) (f s t Bc Bm : Nat) (T : tyJ) (σ τ : tvS) : Prop :=
  (∀ q, D.bP f ≤ q → q < s → mat Bc Bm T (rd σ 66 q) (rd τ 178 q)) ∧ (∀ v, tvd D f t v → mat Bc Bm T (rd σ 67 v) (rd τ 179 v)) ∧
  (∀ r c : Nat, D.bP f ≤ r → r < D.bP (f + 1) → (D.K r = 5 ∨ D.K r = 6 ∨ D.K r = 7) → (D.kd r)[0]? = some c → c < t → matk (if D.K r = 7 then 4 else 2) Bc Bm T (rd σ 66 c) (rd τ 178 c)) ∧
  mat Bc Bm T (rd σ 68 f) (rd τ 180 f)
theorem TYS.ex {s t : Nat} (h : TYS D f s t Bc Bm T σ τ) (e : exT Bc Bm T T') : TYS D f s t Bc Bm T' σ τ :=
  ⟨fun q h1 h2 => (h.1 q h1 h2).ex e, fun v hv => (h.2.1 v hv).ex e, fun r c h1 h2 h3 h4 h5 => (h.2.2.1 r c h1 h2 h3 h4 h5).ex (by split <;> decide) e, h.2.2.2.ex e⟩
theorem TYS.to {s t : Nat} (h : TYS D f s t Bc Bm T σ τ) (hc : ∀ j, inL [66, 67, 68] j = true → ∀ i, rd σ' j i = rd σ j i) (hm : ∀ j, inL [178, 179, 180] j = true → ∀ i, rd τ' j i = rd τ j i) : TYS D f s t Bc Bm T σ' τ' := by
  unfold TYS at h ⊢
  simp only [hc 66 rfl, hc 67 rfl, hc 68 rfl, hm 178 rfl, hm 179 rfl, hm 180 rfl]
  exact h
/-- all of it -/
def TYI (K1 K2 Bc Bm f : Nat) (Rc Rm : Nat → Nat → Prop) (D : pgD) (G : sgD) (rl s t n u a : Nat) (pd : List (Nat × List Nat × (Nat → Nat))) (rc : Nat) (T : tyJ) (σ τ : tvS) : Prop :=
  TJ K1 K2 Bc Bm f Rc Rm pd n u a rc T σ τ ∧ PGR D σ τ ∧ OLF D G f Bc Bm Rc Rm T σ τ ∧ (∃ (Nk : Nat) (ce : Nat → Nat) (Nm : Nat) (cm : Nat → Nat), CAL D G f Bc Bm rl pd rc T Nk ce Nm cm σ τ) ∧ TYS D f s t Bc Bm T σ τ
theorem TYI.ex {rl s t n' u' a' : Nat} (h : TYI K1 K2 Bc Bm f Rc Rm D G rl s t n u a pd rc T σ τ) (e : exT Bc Bm T T') (hT : TJ K1 K2 Bc Bm f Rc Rm pd n' u' a' rc T' σ' τ') (hV : ∀ g, g < f → D.tV g + D.bk g ≤ D.tV f) (wc : frT FCW FTW [8, 12, 14] σ σ') (wm : frM FMW FMG τ τ') : TYI K1 K2 Bc Bm f Rc Rm D G rl s t n' u' a' pd rc T' σ' τ' := by
  obtain ⟨h1, h2, h3, ⟨Nk, ce, Nm, cm, h4⟩, h5⟩ := h
  have hB : ∀ x, x < Bc → T.1.2.2.1 x < Bc := h1.2.1.2.2.1
  refine ⟨hT, h2.fr wc wm rfl rfl, ?_, ⟨Nk, ce, Nm, cm, ?_⟩, ?_⟩
  · exact (h3.ex e).to hV (fun j hj i => wc.rd (j := j) (inL_off rfl j hj) i) (fun v _ => wc.rd (j := 67) rfl v) (wc.1.2.2 73 rfl).1 (fun j hj i => wm.rd (j := j) (inL_off rfl j hj) i) (fun v _ => wm.rd (j := 179) rfl v)
  · exact (h4.ex h3 hB e).to (wc.rd (j := 65) rfl 9) (fun i => wc.rd (j := 69) rfl i) (fun i => wc.rd (j := 70) rfl i) (wc.1.2.2 70 rfl).1 (wm.2 82 rfl) (fun i => wm.rd (j := 181) rfl i) (fun i => wm.rd (j := 182) rfl i)
  · exact (h5.ex e).to (fun j hj i => wc.rd (j := j) (inL_off rfl j hj) i) (fun j hj i => wm.rd (j := j) (inL_off rfl j hj) i)
/-- a part's own type is set down -/
theorem TYI.set {rl p x y : Nat} (h : TYI K1 K2 Bc Bm f Rc Rm D G rl p p n u a pd rc T σ τ) (hz : T.2.2 x y) (c1 : cuN Bc x) (c2 : cuN Bm y) : TYI K1 K2 Bc Bm f Rc Rm D G rl (p + 1) p n u a pd rc T (wr σ 66 p (i32 (x : Int))) (wr τ 178 p (i32 (y : Int))) := by
  obtain ⟨h1, h2, h3, ⟨Nk, ce, Nm, cm, h4⟩, h5⟩ := h
  have hc : ∀ j, j ≠ 66 → ∀ i, rd (wr σ 66 p (i32 (x : Int))) j i = rd σ j i := fun j hj i => wr_nek hj
  have hm : ∀ j, j ≠ 178 → ∀ i, rd (wr τ 178 p (i32 (y : Int))) j i = rd τ j i := fun j hj i => wr_nek hj
  have off : ∀ (S : List Nat) (k : Nat), inL S k = false → ∀ j, inL S j = true → j ≠ k := fun S k h0 j hj e => by rw [e, h0] at hj; cases hj
  refine ⟨(h1.oC (.inl rfl)).oM (.inl rfl), h2.to (fun j hj i => hc j (off prC 66 rfl j hj) i) (fun j hj i => hm j (off prM 178 rfl j hj) i), ?_, ⟨Nk, ce, Nm, cm, ?_⟩, ?_⟩
  · intro g hg
    obtain ⟨⟨a1, a2, a3, a4, a5, a6, a7, a8, a9, a10, a11⟩, ⟨b1, b2, b3, b4, b5, b6, b7, b8, b9⟩, d3, d4⟩ := h3 g hg
    exact ⟨⟨a1, a2, a3, a4, a5, a6, a7, a8, a9, a10, a11⟩, ⟨b1, b2, b3, b4, b5, b6, b7, b8, b9⟩, d3, d4⟩
  · exact h4.to (hc 65 (by omega) 9) (fun i => hc 69 (by omega) i) (fun i => hc 70 (by omega) i) rfl (hm 123 (by omega) 82) (fun i => hm 181 (by omega) i) (fun i => hm 182 (by omega) i)
  · obtain ⟨q1, q2, q3, q4⟩ := h5
    refine ⟨fun q g1 g2 => ?_, fun v hv => ?_, fun r c g1 g2 g3 g4 g5 => ?_, ?_⟩
    · by_cases e : q = p
      · rw [e, wr_self, wr_self]; exact ⟨x, y, rfl, rfl, hz, c1, c2⟩
      · rw [wr_nei e, wr_nei e]; exact q1 q g1 (by omega)
    · rw [hc 67 (by omega), hm 179 (by omega)]; exact q2 v hv
    · rw [wr_nei (by omega), wr_nei (by omega)]; exact q3 r c g1 g2 g3 g4 g5
    · rw [hc 68 (by omega), hm 180 (by omega)]; exact q4
end OWNSTEP
/-! spans of parts, and what is in scope in them -/
def spn (D : pgD) (p1 q : Nat) : Prop := D.st p1 ≤ q ∧ q ≤ p1
theorem contN.in {st : Nat → Nat} : ∀ (l : List Nat) (s p x : Nat), contN st s l p → s ≤ x → x < p → ∃ w c : Nat, l[w]? = some c ∧ st c ≤ x ∧ x ≤ c := by
  intro l
  induction l with
  | nil => intro s p x h h1 h2; have h : s = p := h; omega
  | cons k r ih =>
    intro s p x h h1 h2
    obtain ⟨a1, a2, a3, a4⟩ := h
    by_cases e : x ≤ k
    · exact ⟨0, k, rfl, by omega, e⟩
    · obtain ⟨w, c, b1, b2⟩ := ih (k + 1) p x a4 (by omega) h2
      exact ⟨w + 1, c, b1, b2⟩
theorem spn.st {D : pgD} {m f : Nat} (hF : PFf D m f) : ∀ (n p1 q : Nat), p1 ≤ n → D.bP f ≤ p1 → p1 < D.bP (f + 1) → spn D p1 q → D.st p1 ≤ D.st q := by
  intro n
  induction n with
  | zero =>
    intro p1 q h1 h2 h3 h4
    have : q = p1 := by have := h4.2; omega
    rw [this]; exact Nat.le_refl _
  | succ n ih =>
    intro p1 q h1 h2 h3 h4
    by_cases e : q = p1
    · rw [e]; exact Nat.le_refl _
    · have hp := hF.2.2.1 p1 h2 h3
      obtain ⟨w, c, c1, c2, c3⟩ := contN.in _ _ _ q hp.2.1 h4.1 (by have := h4.2; omega)
      obtain ⟨b1, b2, b3, _⟩ := contN.at _ _ _ _ _ hp.2.1 c1
      have := ih c q (by omega) (by have := hp.1.2.2.1; omega) (by omega) ⟨c2, c3⟩
      omega
/-- a part is the kid of one other at most -/
theorem PFf.par1 {D : pgD} {m f : Nat} (hF : PFf D m f) {r q w w' a : Nat} (r1 : D.bP f ≤ r) (r2 : r < D.bP (f + 1)) (q1 : D.bP f ≤ q) (q2 : q < D.bP (f + 1)) (hr : (D.kd r)[w]? = some a) (hq : (D.kd q)[w']? = some a) : r = q := by
  have key : ∀ r q w w' : Nat, D.bP f ≤ r → r < D.bP (f + 1) → D.bP f ≤ q → q < D.bP (f + 1) → (D.kd r)[w]? = some a → (D.kd q)[w']? = some a → ¬ r < q := by
    intro r q w w' r1 r2 q1 q2 hr hq hlt
    have hPq := hF.2.2.1 q q1 q2
    have hPr := hF.2.2.1 r r1 r2
    obtain ⟨a1, a2, a3, _⟩ := contN.at _ _ _ _ _ hPr.2.1 hr
    obtain ⟨b1, b2, b3, b4⟩ := contN.at _ _ _ _ _ hPq.2.1 hq
    obtain ⟨v, c, c1, c2, c3⟩ := contN.in _ _ _ r hPq.2.1 (by omega) hlt
    obtain ⟨d1, d2, d3, d4⟩ := contN.at _ _ _ _ _ hPq.2.1 c1
    have e1 := spn.st hF c c r (Nat.le_refl _) (by have := hPq.1.2.2.1; omega) (by omega) ⟨c2, c3⟩
    by_cases hw : w' < v
    · have := d4 w' a hw hq; omega
    · by_cases hw2 : v < w'
      · have := b4 v c hw2 c1; omega
      · have e : w' = v := by omega
        rw [e, c1] at hq
        have hq : c = a := Option.some.inj hq
        omega
  have k1 := key r q w w' r1 r2 q1 q2 hr hq
  have k2 := key q r w' w q1 q2 r1 r2 hq hr
  omega
/-- of a kid: within a span if and only if its parent is, save where it is the whole span -/
theorem spn.par {D : pgD} {m f : Nat} (hF : PFf D m f) : ∀ (n p1 a q w : Nat), p1 ≤ n → D.bP f ≤ p1 → p1 < D.bP (f + 1) → D.bP f ≤ q → q < D.bP (f + 1) → (D.kd q)[w]? = some a → spn D p1 a → a ≠ p1 → spn D p1 q := by
  intro n
  induction n with
  | zero =>
    intro p1 a q w h1 h2 h3 q1 q2 hq ha hne
    have := ha.2; omega
  | succ n ih =>
    intro p1 a q w h1 h2 h3 q1 q2 hq ha hne
    have hp := hF.2.2.1 p1 h2 h3
    obtain ⟨v, c, c1, c2, c3⟩ := contN.in _ _ _ a hp.2.1 ha.1 (by have := ha.2; omega)
    obtain ⟨b1, b2, b3, _⟩ := contN.at _ _ _ _ _ hp.2.1 c1
    by_cases e : a = c
    · subst e
      have e2 := hF.par1 q1 q2 h2 h3 hq c1
      rw [e2]
      exact ⟨hp.1.2.2.2, Nat.le_refl _⟩
    · have := ih c a q w (by omega) (by have := hp.1.2.2.1; omega) (by omega) q1 q2 hq ⟨c2, c3⟩ e
      exact ⟨by have := this.1; omega, by have := this.2; omega⟩
theorem spn.kid {D : pgD} {m f : Nat} (hF : PFf D m f) {p1 a q w : Nat} (h2 : D.bP f ≤ p1) (h3 : p1 < D.bP (f + 1)) (q1 : D.bP f ≤ q) (q2 : q < D.bP (f + 1)) (hq : (D.kd q)[w]? = some a) (h : spn D p1 q) : spn D p1 a := by
  have e := spn.st hF p1 p1 q (Nat.le_refl _) h2 h3 h
  have hp := hF.2.2.1 q q1 q2
  obtain ⟨b1, b2, b3, _⟩ := contN.at _ _ _ _ _ hp.2.1 hq
  exact ⟨by omega, by have := h.2; omega⟩
theorem pgD.sn_bd {D : pgD} {q w v : Nat} (h : v ∈ D.sn q w) : v ∈ D.bd q := by
  unfold pgD.sn at h
  unfold pgD.bd
  by_cases k1 : D.K q = 17
  · rw [if_pos k1] at h ⊢; exact h
  · rw [if_neg k1] at h ⊢
    by_cases k2 : D.K q = 19
    · rw [if_pos k2]
      by_cases k3 : D.K q = 19 ∧ w = 1
      · rw [if_pos k3] at h; exact h
      · rw [if_neg k3, if_neg (by omega)] at h; cases h
    · rw [if_neg (by omega)] at h
      rw [if_neg k2]
      by_cases k3 : D.K q = 20 ∧ w = 2
      · rw [if_pos k3] at h
        rw [if_pos k3.1]
        rcases List.mem_cons.mp h with j | j
        · rw [j]; exact List.mem_cons_of_mem _ List.mem_cons_self
        · rw [List.mem_singleton.mp j]; exact List.mem_cons_self
      · rw [if_neg k3] at h; cases h
/-- what is in scope within a span and bound outside is in scope of the whole span -/
theorem PFf.scIn {D : pgD} {m f : Nat} (hF : PFf D m f) {p1 r v : Nat} (h2 : D.bP f ≤ p1) (h3 : p1 < D.bP (f + 1)) (r1 : D.bP f ≤ r) (r2 : r < D.bP (f + 1)) (hr : v ∈ D.bd r) (hn : ¬ spn D p1 r) : ∀ (n p : Nat), p1 - p ≤ n → spn D p1 p → v ∈ D.sl p → v ∈ D.sl p1 := by
  intro n
  induction n with
  | zero =>
    intro p h1 hp hv
    have : p = p1 := by have := hp.2; omega
    rw [← this]; exact hv
  | succ n ih =>
    intro p h1 hp hv
    by_cases e : p = p1
    · rw [← e]; exact hv
    · have pb : D.bP f ≤ p := by have := hp.1; have := (hF.2.2.1 p1 h2 h3).1.2.2.1; omega
      obtain ⟨q, w, q1, q2, q3⟩ := hF.2.2.2.1 p pb (by have := hp.2; omega)
      have hq := hF.2.2.1 q (by omega) q2
      have hs := spn.par hF p1 p1 p q w (Nat.le_refl _) h2 h3 (by omega) q2 q3 hp e
      rw [hq.2.2.2.2.2.1 w p q3] at hv
      rcases List.mem_append.mp hv with hv | hv
      · have := hF.2.2.2.2.2.2 r q v r1 r2 (by omega) q2 hr (pgD.sn_bd hv)
        rw [this] at hn
        exact absurd hs hn
      · exact ih q (by omega) hs hv
/-- what is in scope lies within the part that binds it -/
theorem PFf.scB {D : pgD} {m f : Nat} (hF : PFf D m f) {r v : Nat} (r1 : D.bP f ≤ r) (r2 : r < D.bP (f + 1)) (hr : v ∈ D.bd r) : ∀ (n p : Nat), D.bP (f + 1) - p ≤ n → D.bP f ≤ p → p < D.bP (f + 1) → v ∈ D.sl p → spn D r p := by
  intro n
  induction n with
  | zero => intro p h1 h2 h3; omega
  | succ n ih =>
    intro p h1 h2 h3 hv
    by_cases e : p + 1 < D.bP (f + 1)
    · obtain ⟨q, w, q1, q2, q3⟩ := hF.2.2.2.1 p h2 e
      have hq := hF.2.2.1 q (by omega) q2
      have hk := contN.at _ _ _ _ _ hq.2.1 q3
      rw [hq.2.2.2.2.2.1 w p q3] at hv
      rcases List.mem_append.mp hv with hv | hv
      · have := hF.2.2.2.2.2.2 r q v r1 r2 (by omega) q2 hr (pgD.sn_bd hv)
        rw [this]
        exact ⟨by omega, by omega⟩
      · exact spn.kid hF r1 r2 (by omega) q2 q3 (ih q (by omega) (by omega) q2 hv)
    · rw [show p = D.bP (f + 1) - 1 by omega, hF.2.1.2] at hv
      have := pls_bd hv
      have := (hF.2.2.1 r r1 r2).2.2.2.2.2.2.2 v hr
      omega
theorem pls_all {V v : Nat} : ∀ {k : Nat}, V ≤ v → v < V + k → v ∈ pls V k := by
  intro k
  induction k with
  | zero => intro h1 h2; omega
  | succ k ih =>
    intro h1 h2
    show v ∈ (V + k) :: pls V k
    by_cases e : v = V + k
    · rw [e]; exact List.mem_cons_self
    · exact List.mem_cons_of_mem _ (ih h1 (by omega))
/-- parameters are in scope everywhere -/
theorem PFf.scP {D : pgD} {m f : Nat} (hF : PFf D m f) {v : Nat} (h1 : D.tV f ≤ v) (h2 : v < D.tV f + D.bk f) : ∀ (n p : Nat), D.bP (f + 1) - p ≤ n → D.bP f ≤ p → p < D.bP (f + 1) → v ∈ D.sl p := by
  intro n
  induction n with
  | zero => intro p q1 q2 q3; omega
  | succ n ih =>
    intro p q1 q2 q3
    by_cases e : p + 1 < D.bP (f + 1)
    · obtain ⟨q, w, z1, z2, z3⟩ := hF.2.2.2.1 p q2 e
      rw [(hF.2.2.1 q (by omega) z2).2.2.2.2.2.1 w p z3]
      exact List.mem_append_right _ (ih q (by omega) (by omega) z2)
    · rw [show p = D.bP (f + 1) - 1 by omega, hF.2.1.2]
      exact pls_all h1 h2
/-! the types of a function's parts: a class that is met inside and outside of a part is reached from what both share -/
def oT (σ : tvS) (q : Nat) : Nat := ix (rd σ 66 q)
def vT (σ : tvS) (v : Nat) : Nat := ix (rd σ 67 v)
def rT (σ : tvS) (f : Nat) : Nat := ix (rd σ 68 f)
def cT (σ : tvS) (q i : Nat) : Nat := ix (rd σ 70 (ix (rd σ 69 q) + i))
/-- of X, or on the side of q; tg: which part has made a type -/
def okn (D : pgD) (p1 : Nat) (X : Nat → Prop) (tg : Nat → Nat) (q x : Nat) : Prop := X x ∨ (spn D p1 (tg x) ↔ spn D p1 q)
/-- X is closed and has what is shared -/
def ITc (D : pgD) (f s t : Nat) (T : tyJ) (σ : tvS) (p1 : Nat) (X : Nat → Prop) : Prop :=
  cl1 T X ∧ (∀ x u, X x → yH T (yC T x) u → X u) ∧ X 0 ∧ (p1 < s → X (oT σ p1)) ∧ (∀ v, v ∈ D.sl p1 → tvd D f t v → X (vT σ v)) ∧ X (rT σ f)
def ITI (D : pgD) (G : sgD) (f s t k : Nat) (T : tyJ) (σ : tvS) (tg : Nat → Nat) (p1 : Nat) (X : Nat → Prop) : Prop :=
  (∀ x y, yC T x = yC T y → X x ∨ (spn D p1 (tg x) ↔ spn D p1 (tg y))) ∧
  (∀ x, 2 ≤ (yG T).1 x → okn D p1 X tg (tg x) ((yG T).2.1 x) ∧ ((yG T).1 x ≠ 3 → okn D p1 X tg (tg x) ((yG T).2.2 x))) ∧
  (∀ x u, yH T (yC T x) u → okn D p1 X tg (tg x) u) ∧
  (∀ q, D.bP f ≤ q → q < s → okn D p1 X tg q (oT σ q)) ∧
  (∀ r v, D.bP f ≤ r → r < D.bP (f + 1) → v ∈ D.bd r → tvd D f t v → okn D p1 X tg r (vT σ v)) ∧
  (∀ q i, D.bP f ≤ q → q < k → D.K q = 3 → D.vl q < f → i < D.cn G q → okn D p1 X tg q (cT σ q i))
def ITP (D : pgD) (G : sgD) (f s t k : Nat) (T : tyJ) (σ : tvS) (tg : Nat → Nat) : Prop := ∀ (p1 : Nat) (X : Nat → Prop), D.bP f ≤ p1 → p1 < D.bP (f + 1) → ITc D f s t T σ p1 X → ITI D G f s t k T σ tg p1 X
/-- all that is known lies below N -/
def ITb (D : pgD) (G : sgD) (f s t k : Nat) (T : tyJ) (σ : tvS) : Prop :=
  (∀ q, D.bP f ≤ q → q < s → oT σ q < yN T) ∧ (∀ v, tvd D f t v → vT σ v < yN T) ∧ (∀ q i, D.bP f ≤ q → q < k → D.K q = 3 → D.vl q < f → i < D.cn G q → cT σ q i < yN T)
theorem ITP.go {D : pgD} {G : sgD} {f s t k s' t' k' q : Nat} {T T' : tyJ} {σ σ' : tvS} {tg : Nat → Nat} {B res : Nat → Prop} (h : ITP D G f s t k T σ tg) (hb : ITb D G f s t k T σ) (hL : LOC T T' B res)
    (z : ∀ x, yN T ≤ x → yC T x = x ∧ (yG T).1 x = 0) (zl : ∀ x, x < yN T → yC T x < yN T) (zk : ∀ x, 2 ≤ (yG T).1 x → (yG T).2.1 x < yN T ∧ ((yG T).1 x ≠ 3 → (yG T).2.2 x < yN T)) (zh : ∀ x u, yH T (yC T x) u → yC T x < yN T ∧ u < yN T) (g' : gP (yG T') (yC T')) (hz' : ∀ x, yN T' ≤ x → (yG T').1 x = 0)
    (hs : s ≤ s') (ht : t ≤ t') (k66 : ∀ p, D.bP f ≤ p → p < s → oT σ' p = oT σ p) (k67 : ∀ v, tvd D f t v → vT σ' v = vT σ v) (k68 : rT σ' f = rT σ f) (k70 : ∀ q i, D.bP f ≤ q → q < k → D.K q = 3 → D.vl q < f → i < D.cn G q → cT σ' q i = cT σ q i)
    (hB : ∀ (p1 : Nat) (X : Nat → Prop), D.bP f ≤ p1 → p1 < D.bP (f + 1) → ITc D f s' t' T' σ' p1 X → ITc D f s t T σ p1 X → ITI D G f s t k T σ tg p1 X → ∀ x, B x → x < yN T ∧ okn D p1 X tg q x)
    (hO : ∀ p, D.bP f ≤ p → s ≤ p → p < s' → p = q ∧ res (oT σ' p))
    (hV : ∀ r v, D.bP f ≤ r → r < D.bP (f + 1) → v ∈ D.bd r → tvd D f t' v → tvd D f t v ∨ (r = q ∧ res (vT σ' v))) (hK : ∀ p i, D.bP f ≤ p → k ≤ p → p < k' → D.K p = 3 → D.vl p < f → i < D.cn G p → p = q ∧ res (cT σ' p i)) : ITP D G f s' t' k' T' σ' (fun x => if x < yN T then tg x else q) := by
  intro p1 X hp1 hp2 hc
  obtain ⟨⟨x1, x2⟩, x3, x4, x5, x6, x7⟩ := id hc
  obtain ⟨⟨L1, L2, L3, L4⟩, L5⟩ := hL
  have hco : ITc D f s t T σ p1 X := by
    refine ⟨⟨fun x y e => x1 x y (L3 x y e), fun x hx px hk => ?_⟩, fun x u hx hu => ?_, x4, fun q => by rw [← k66 p1 hp1 q]; exact x5 (by omega), fun v hv hd => by rw [← k67 v hd]; exact x6 v hv (hd.mono ht), by rw [← k68]; exact x7⟩
    · obtain ⟨e1, e2, e3⟩ := L2 x hx
      have := x2 x (by omega) px (by rw [e1]; exact hk)
      rw [e1, e2, e3] at this; exact this
    · obtain ⟨w, w1, w2⟩ := L4 x u hu
      exact x1 w u w2 (x3 x w hx w1)
  obtain ⟨I1, I2, I3, I4, I5, I6⟩ := h p1 X hp1 hp2 hco
  obtain ⟨tg', etg⟩ : ∃ tg' : Nat → Nat, tg' = fun x => if x < yN T then tg x else q := ⟨_, rfl⟩
  rw [← etg]
  have t1 : ∀ {x}, x < yN T → tg' x = tg x := fun hx => by rw [etg]; exact if_pos hx
  have t2 : ∀ {x}, yN T ≤ x → tg' x = q := fun hx => by rw [etg]; exact if_neg (by omega)
  have lift : ∀ {a x : Nat}, x < yN T → okn D p1 X tg a x → okn D p1 X tg' a x := fun hx k => k.elim .inl (fun k => .inr (by rw [t1 hx]; exact k))
  have both : ∀ {x y : Nat}, yC T x = yC T y → x = y ∨ (x < yN T ∧ y < yN T) := fun {x y} e => by
    by_cases a : x < yN T
    · by_cases b : y < yN T
      · exact .inr ⟨a, b⟩
      · have := zl x a; have := (z y (by omega)).1; omega
    · by_cases b : y < yN T
      · have := zl y b; have := (z x (by omega)).1; omega
      · have := (z y (by omega)).1; have := (z x (by omega)).1; left; omega
  obtain ⟨l1, l2, l3, l4⟩ := L5 (okn D p1 X tg' q) ⟨fun x y e k => by
      rcases both e with e2 | ⟨a, b⟩
      · rw [← e2]; exact k
      · rcases k with k | k
        · exact .inl (hco.1.1 x y e k)
        · rcases I1 x y e with i | i
          · exact .inl (hco.1.1 x y e i)
          · right; rw [t1 b, ← i, ← t1 a]; exact k, fun x hx k hk => by
      have kx := zk x hk
      have i := I2 x hk
      have key : ∀ y, y < yN T → (X x → X y) → okn D p1 X tg (tg x) y → okn D p1 X tg' q y := fun y hy xy o => by
        rcases k with k | k
        · exact .inl (xy k)
        · rcases o with o | o
          · exact .inl o
          · right; rw [t1 hy, o, ← t1 hx]; exact k
      exact ⟨key _ kx.1 (fun a => (hco.1.2 x hx a hk).1) i.1, fun h3 => key _ (kx.2 h3) (fun a => (hco.1.2 x hx a hk).2 h3) (i.2 h3)⟩⟩
    (fun x hx => .inr (by rw [t2 hx])) (fun x hx => by
      have := hB p1 X hp1 hp2 hc hco ⟨I1, I2, I3, I4, I5, I6⟩ x hx
      exact lift this.1 this.2)
  have J2 : ∀ x, 2 ≤ (yG T').1 x → okn D p1 X tg' (tg' x) ((yG T').2.1 x) ∧ ((yG T').1 x ≠ 3 → okn D p1 X tg' (tg' x) ((yG T').2.2 x)) := by
    intro x hk
    by_cases a : x < yN T
    · obtain ⟨e1, e2, e3⟩ := L2 x a
      rw [e1] at hk ⊢
      rw [e2, e3, t1 a]
      exact ⟨lift (zk x hk).1 (I2 x hk).1, fun h3 => lift ((zk x hk).2 h3) ((I2 x hk).2 h3)⟩
    · rw [t2 (Nat.le_of_not_lt a)]
      exact l1 x (by omega) hk
  have kx' : ∀ x, X x → 2 ≤ (yG T').1 x → X ((yG T').2.1 x) ∧ ((yG T').1 x ≠ 3 → X ((yG T').2.2 x)) := fun x hx hk => by
    have := x1 x _ (g'.1 x).symm hx
    by_cases a : x < yN T'
    · exact x2 x a hx hk
    · by_cases b : x < yN T
      · omega
      · have := hz' x (by omega)
        omega
  have J1 : ∀ x y, yC T' x = yC T' y → X x ∨ (spn D p1 (tg' x) ↔ spn D p1 (tg' y)) := by
    intro x y e
    have := l4 (fun x y => yC T' x = yC T' y ∧ (X x ∨ (spn D p1 (tg' x) ↔ spn D p1 (tg' y)))) ⟨fun x => ⟨rfl, .inr Iff.rfl⟩, fun x y k => ⟨k.1.symm, k.2.elim (fun a => .inl (x1 x y k.1 a)) (fun a => .inr a.symm)⟩, fun x y w k k' => ⟨k.1.trans k'.1, k.2.elim .inl (fun a => k'.2.elim (fun b => .inl (x1 y x k.1.symm b)) (fun b => .inr (a.trans b)))⟩⟩ (fun x y k hk hk' => ?_) (fun x y k => ⟨L3 x y k, ?_⟩) (fun x y px py k => ⟨k, ?_⟩) x y e
    · exact this.2
    · have cl := g'.2.2.1 x y k.1 hk hk'
      have jx := J2 x hk
      have jy := J2 y (by omega)
      have key : ∀ a b, yC T' a = yC T' b → (X x → X a) → okn D p1 X tg' (tg' x) a → okn D p1 X tg' (tg' y) b → yC T' a = yC T' b ∧ (X a ∨ (spn D p1 (tg' a) ↔ spn D p1 (tg' b))) := fun a b ec xa oa ob => by
        refine ⟨ec, ?_⟩
        rcases k.2 with k | k
        · exact .inl (xa k)
        · rcases oa with oa | oa
          · exact .inl oa
          · rcases ob with ob | ob
            · exact .inl (x1 b a ec.symm ob)
            · exact .inr (oa.trans (k.trans ob.symm))
      exact ⟨key _ _ cl.1 (fun a => (kx' x a hk).1) jx.1 jy.1, fun h3 => key _ _ (cl.2 h3) (fun a => (kx' x a hk).2 h3) (jx.2 h3) (jy.2 (by omega))⟩
    · rcases both k with k2 | ⟨a, b⟩
      · rw [k2]; exact .inr Iff.rfl
      · rw [t1 a, t1 b]; exact I1 x y k
    · rcases px with px | px
      · exact .inl px
      · rcases py with py | py
        · exact .inl (x1 y x k.symm py)
        · exact .inr (px.trans py.symm)
  refine ⟨J1, J2, fun x u hu => ?_, fun p hp hps => ?_, fun r v r1 r2 hv hd => ?_, fun p i p1' p2' p3' p4' hi => ?_⟩
  · rcases l3 x u hu with ⟨s0, v, s1, s2, s3⟩ | ⟨s1, s2⟩
    · by_cases a : X u
      · exact .inl a
      · by_cases b : X x
        · exact absurd (x3 x u b hu) a
        · have b1 : ¬ X s0 := fun k => b (x1 _ _ s1 k)
          have b2 : ¬ X v := fun k => a (x1 _ _ s3 k)
          have c1 := zh _ _ s2
          have c2 : s0 < yN T := by
            apply Classical.byContradiction
            intro k
            have := (z s0 (by omega)).1; omega
          have d1 := (I3 s0 v s2).resolve_left b2
          have d2 := (J1 _ _ s1).resolve_left b1
          have d3 := (J1 _ _ s3).resolve_left b2
          rw [t1 c2] at d2
          rw [t1 c1.2] at d3
          exact .inr (d3.symm.trans (d1.trans d2))
    · rw [t2 s1]; exact s2
  · by_cases a : p < s
    · rw [k66 p hp a]; exact lift (hb.1 p hp a) (I4 p hp a)
    · obtain ⟨e, e2⟩ := hO p hp (by omega) hps
      have := l2 _ e2
      rw [← e] at this; exact this
  · rcases hV r v r1 r2 hv hd with a | ⟨a, a2⟩
    · rw [k67 v a]; exact lift (hb.2.1 v a) (I5 r v r1 r2 hv a)
    · have := l2 _ a2
      rw [← a] at this; exact this
  · by_cases a : p < k
    · rw [k70 p i p1' a p3' p4' hi]; exact lift (hb.2.2 p i p1' a p3' p4' hi) (I6 p i p1' a p3' p4' hi)
    · obtain ⟨e, e2⟩ := hK p i p1' (by omega) p2' p3' p4' hi
      have := l2 _ e2
      rw [← e] at this; exact this
/-! what typing says of a part: of its own type, of its place -/
def BSo (D : pgD) (G : sgD) (f p : Nat) (σ : tvS) (b : Nat) : Prop := b = 0 ∨ (∃ w c : Nat, (D.kd p)[w]? = some c ∧ b = oT σ c) ∨ (D.K p = 2 ∧ b = vT σ (D.vl p)) ∨ (D.K p = 17 ∧ b = vT σ (D.gv (D.vl p))) ∨ b = rT σ f ∨ (D.K p = 3 ∧ D.vl p < f ∧ ∃ i, i < D.cn G p ∧ b = cT σ p i)
def EQx (D : pgD) (f : Nat) (T : tyJ) (σ : tvS) (p x : Nat) : Prop :=
  (D.K p = 0 ∨ (8 ≤ D.K p ∧ D.K p ≤ 15) → x = 0) ∧ (D.K p = 1 → ∃ z, bxT T x 3 z 0) ∧ (D.K p = 2 → x = vT σ (D.vl p)) ∧ (D.K p = 3 → x = if D.vl p = f then rT σ f else cT σ p (D.bk (D.vl p))) ∧
  (∀ c b : Nat, D.K p = 4 → (D.kd p)[0]? = some c → (D.kd p)[1]? = some b → bxT T x 2 (oT σ c) (oT σ b)) ∧
  (∀ c : Nat, (D.kd p)[0]? = some c → (D.K p = 5 → ∃ z, bxT T (oT σ c) 2 x z) ∧ (D.K p = 6 → ∃ z, bxT T (oT σ c) 2 z x) ∧ (D.K p = 7 → ∃ z, bxT T (oT σ c) 4 z x) ∧ (D.K p = 17 → bxT T x 4 (vT σ (D.gv (D.vl p))) (oT σ c))) ∧
  (∀ b : Nat, D.K p = 16 ∨ D.K p = 18 ∨ D.K p = 19 ∨ D.K p = 20 → (D.kd p)[1]? = some b → x = oT σ b)
theorem EQx.to {D : pgD} {f : Nat} {T : tyJ} {σ σ' : tvS} {p x : Nat} (h : EQx D f T σ p x) (hk : ∀ w c : Nat, (D.kd p)[w]? = some c → oT σ' c = oT σ c) (hv : D.K p = 2 → vT σ' (D.vl p) = vT σ (D.vl p)) (hg : D.K p = 17 → vT σ' (D.gv (D.vl p)) = vT σ (D.gv (D.vl p))) (hr : rT σ' f = rT σ f) (hc : D.K p = 3 → D.vl p ≠ f → cT σ' p (D.bk (D.vl p)) = cT σ p (D.bk (D.vl p))) : EQx D f T σ' p x := by
  obtain ⟨a1, a2, a3, a4, a5, a6, a7⟩ := h
  refine ⟨a1, a2, fun k => (a3 k).trans (hv k).symm, fun k => ?_, fun c b k h1 h2 => by rw [hk 0 c h1, hk 1 b h2]; exact a5 c b k h1 h2, fun c h1 => ?_, fun b k h2 => by rw [hk 1 b h2]; exact a7 b k h2⟩
  · rw [a4 k, hr]
    by_cases e : D.vl p = f
    · rw [if_pos e, if_pos e]
    · rw [if_neg e, if_neg e, hc k e]
  · obtain ⟨b1, b2, b3, b4⟩ := a6 c h1
    rw [hk 0 c h1]
    exact ⟨b1, b2, b3, fun k => by rw [hg k]; exact b4 k⟩
theorem EQx.ex {D : pgD} {f : Nat} {T T' : tyJ} {σ : tvS} {p x : Nat} {B res : Nat → Prop} (h : EQx D f T σ p x) (hL : LOC T T' B res) (hz : ∀ x, yN T ≤ x → (yG T).1 x = 0) (g : gP (yG T) (yC T)) (g' : gP (yG T') (yC T')) : EQx D f T' σ p x := by
  obtain ⟨a1, a2, a3, a4, a5, a6, a7⟩ := h
  have e : ∀ {x k a b : Nat}, 2 ≤ k → bxT T x k a b → bxT T' x k a b := fun hk k => k.ex hk hL hz g g'
  refine ⟨a1, fun k => ?_, a3, a4, fun c b k h1 h2 => e (by decide) (a5 c b k h1 h2), fun c h1 => ?_, a7⟩
  · obtain ⟨z, hz⟩ := a2 k
    exact ⟨z, e (by decide) hz⟩
  · obtain ⟨b1, b2, b3, b4⟩ := a6 c h1
    exact ⟨fun k => let ⟨z, hz⟩ := b1 k; ⟨z, e (by decide) hz⟩, fun k => let ⟨z, hz⟩ := b2 k; ⟨z, e (by decide) hz⟩, fun k => let ⟨z, hz⟩ := b3 k; ⟨z, e (by decide) hz⟩, fun k => e (by decide) (b4 k)⟩
def BSp (D : pgD) (G : sgD) (f p : Nat) (σ : tvS) (b : Nat) : Prop := b = 0 ∨ b = oT σ p ∨ (p + 1 = D.bP (f + 1) ∧ b = rT σ f) ∨ ∃ q w : Nat, D.bP f ≤ q ∧ q < D.bP (f + 1) ∧ (D.kd q)[w]? = some p ∧ ((∃ w' c : Nat, (D.kd q)[w']? = some c ∧ c ≤ p ∧ b = oT σ c) ∨ (D.K q = 3 ∧ D.vl q = f ∧ w < D.bk f ∧ b = vT σ (D.tV f + w)) ∨ (D.K q = 3 ∧ D.vl q < f ∧ ∃ i, i < D.cn G q ∧ b = cT σ q i))
/-- the variables that are bound at this place -/
def BSv (D : pgD) (f p : Nat) (σ : tvS) (b : Nat) : Prop := ∃ q v : Nat, D.bP f ≤ q ∧ q < D.bP (f + 1) ∧ (D.K q = 19 ∨ D.K q = 20) ∧ (D.kd q)[0]? = some p ∧ v ∈ D.bd q ∧ b = vT σ v
def EQq (D : pgD) (f : Nat) (T : tyJ) (σ : tvS) (p q w : Nat) : Prop :=
   (D.K q = 3 → yC T (oT σ p) = yC T (if D.vl q = f then vT σ (D.tV f + w) else cT σ q w)) ∧
   (D.K q = 7 → w = 1 → ∀ c : Nat, (D.kd q)[0]? = some c → ∃ z, bxT T (oT σ c) 4 (oT σ p) z) ∧
   ((8 ≤ D.K q ∧ D.K q ≤ 15) ∨ (D.K q = 18 ∧ w = 0) → yC T (oT σ p) = yC T 0) ∧
   (D.K q = 16 → w = 1 → ∀ c : Nat, (D.kd q)[0]? = some c → bxT T (oT σ p) 3 (oT σ c) 0) ∧
   (D.K q = 18 ∨ D.K q = 20 → w = 2 → ∀ b : Nat, (D.kd q)[1]? = some b → yC T (oT σ p) = yC T (oT σ b)) ∧
   (D.K q = 19 → w = 0 → vT σ (D.vl q) = oT σ p) ∧
   (D.K q = 20 → w = 0 → bxT T (oT σ p) 3 (vT σ (D.vl q)) 0 ∧ yC T (oT σ p) = yC T (vT σ (D.vl q + 1)))
def EQp (D : pgD) (f : Nat) (T : tyJ) (σ : tvS) (p : Nat) : Prop :=
  (p + 1 = D.bP (f + 1) → yC T (oT σ p) = yC T (rT σ f)) ∧ ∀ q w : Nat, D.bP f ≤ q → q < D.bP (f + 1) → (D.kd q)[w]? = some p → EQq D f T σ p q w
theorem EQp.cg {D : pgD} {f : Nat} {T : tyJ} {σ σ' : tvS} {p : Nat} (h : EQp D f T σ p) (h0 : ∀ q, oT σ' q = oT σ q) (hv : ∀ v, vT σ' v = vT σ v) (hr : rT σ' f = rT σ f) (hc : ∀ q i, cT σ' q i = cT σ q i) : EQp D f T σ' p := by
  unfold EQp EQq at h ⊢
  simp only [h0, hv, hr, hc]
  exact h
/-- its parent is one -/
theorem EQp.one {D : pgD} {m f : Nat} (hF : PFf D m f) {T : tyJ} {σ : tvS} {p q w : Nat} (hp : p + 1 < D.bP (f + 1)) (q1 : D.bP f ≤ q) (q2 : q < D.bP (f + 1)) (hq : (D.kd q)[w]? = some p) (h : EQq D f T σ p q w) : EQp D f T σ p := by
  refine ⟨fun e => by omega, fun q' w' r1 r2 hq' => ?_⟩
  have e := hF.par1 r1 r2 q1 q2 hq' hq
  subst e
  have nd : ∀ (l : List Nat) (s e : Nat), contN D.st s l e → l.Nodup := by
    intro l
    induction l with
    | nil => intro s e _; exact List.nodup_nil
    | cons k r ih =>
      intro s e h
      obtain ⟨a1, a2, a3, a4⟩ := h
      refine List.nodup_cons.mpr ⟨fun hm => ?_, ih _ _ a4⟩
      obtain ⟨w, hw⟩ := List.getElem?_of_mem hm
      have := contN.at _ _ _ _ _ a4 hw
      omega
  have := nodup_at _ _ _ _ (nd _ _ _ (hF.2.2.1 q' r1 r2).2.1) hq' hq
  rw [this]; exact h
/-- what is bound at a place was not typed before -/
theorem tvd.new {D : pgD} {m f p q v : Nat} (hF : PFf D m f) (q1 : D.bP f ≤ q) (q2 : q < D.bP (f + 1)) (hq : (D.kd q)[0]? = some p) (hk : D.K q = 19 ∨ D.K q = 20) (hv : v ∈ D.bd q) : ¬ tvd D f p v := by
  rintro (⟨_, h⟩ | ⟨h, h1, h2, h3⟩ | ⟨r, c, h1, h2, h3, h4, h5, h6⟩)
  · have := (hF.2.2.1 q q1 q2).2.2.2.2.2.2.2 v hv; omega
  · obtain ⟨p', p1, p2, p3, p4⟩ := hF.2.2.2.2.1 h h1 h2
    have := hF.2.2.2.2.2.2 p' q v p1 p2 q1 q2 (by unfold pgD.bd; rw [if_pos p3, p4, h3]; exact List.mem_cons_self) hv
    rw [this] at p3; omega
  · have := hF.2.2.2.2.2.2 r q v h1 h2 q1 q2 h6 hv
    rw [this, hq] at h4
    have := Option.some.inj h4
    omega
theorem EQp.to {D : pgD} {f : Nat} {T : tyJ} {σ σ' : tvS} {p : Nat} (h : EQp D f T σ p) (h0 : oT σ' p = oT σ p) (hk : ∀ q w c : Nat, D.bP f ≤ q → q < D.bP (f + 1) → (D.kd q)[w]? = some c → c ≤ p → oT σ' c = oT σ c) (hlt : ∀ q w w' c : Nat, D.bP f ≤ q → q < D.bP (f + 1) → (D.kd q)[w]? = some p → (D.kd q)[w']? = some c → w' < w → c ≤ p) (hv : ∀ v, tvd D f (p + 1) v → vT σ' v = vT σ v) (hb : ∀ q w : Nat, D.bP f ≤ q → q < D.bP (f + 1) → (D.kd q)[w]? = some p → D.K q = 3 → D.vl q = f → w < D.bk f) (hr : rT σ' f = rT σ f) (hc : ∀ q w : Nat, D.bP f ≤ q → q < D.bP (f + 1) → (D.kd q)[w]? = some p → D.K q = 3 → D.vl q ≠ f → cT σ' q w = cT σ q w) : EQp D f T σ' p := by
  obtain ⟨a1, a2⟩ := h
  refine ⟨fun e => by rw [h0, hr]; exact a1 e, fun q w q1 q2 q3 => ?_⟩
  obtain ⟨b1, b2, b3, b4, b5, b6, b7⟩ := a2 q w q1 q2 q3
  have vv : ∀ v, (D.K q = 19 ∨ D.K q = 20) → w = 0 → v ∈ D.bd q → vT σ' v = vT σ v := fun v k hw hm => hv v (.inr (.inr ⟨q, p, q1, q2, k, by rw [hw] at q3; exact q3, by omega, hm⟩))
  unfold EQq
  rw [h0]
  refine ⟨fun k => ?_, fun k hw c hc' => by rw [hk q 0 c q1 q2 hc' (hlt q w 0 c q1 q2 q3 hc' (by omega))]; exact b2 k hw c hc', b3, fun k hw c hc' => by rw [hk q 0 c q1 q2 hc' (hlt q w 0 c q1 q2 q3 hc' (by omega))]; exact b4 k hw c hc', fun k hw b hb' => by rw [hk q 1 b q1 q2 hb' (hlt q w 1 b q1 q2 q3 hb' (by omega))]; exact b5 k hw b hb', fun k hw => by rw [vv _ (.inl k) hw (by unfold pgD.bd; rw [if_neg (by omega), if_pos k]; exact List.mem_cons_self)]; exact b6 k hw, fun k hw => ?_⟩
  · rw [b1 k]
    by_cases e : D.vl q = f
    · have := hb q w q1 q2 q3 k e
      rw [if_pos e, if_pos e, hv _ (.inl ⟨by omega, by omega⟩)]
    · rw [if_neg e, if_neg e, hc q w q1 q2 q3 k e]
  · have hbd : D.bd q = [D.vl q, D.vl q + 1] := by unfold pgD.bd; rw [if_neg (by omega), if_neg (by omega), if_pos k]
    rw [vv (D.vl q) (.inr k) hw (by rw [hbd]; exact List.mem_cons_self), vv (D.vl q + 1) (.inr k) hw (by rw [hbd]; exact List.mem_cons_of_mem _ List.mem_cons_self)]
    exact b7 k hw
theorem EQp.ex {D : pgD} {f : Nat} {T T' : tyJ} {σ : tvS} {p : Nat} {B res : Nat → Prop} (h : EQp D f T σ p) (hL : LOC T T' B res) (hz : ∀ x, yN T ≤ x → (yG T).1 x = 0) (g : gP (yG T) (yC T)) (g' : gP (yG T') (yC T')) : EQp D f T' σ p := by
  obtain ⟨a1, a2⟩ := h
  have e : ∀ {x k a b : Nat}, 2 ≤ k → bxT T x k a b → bxT T' x k a b := fun hk k => k.ex hk hL hz g g'
  have c : ∀ {x y : Nat}, yC T x = yC T y → yC T' x = yC T' y := fun k => hL.1.2.2.1 _ _ k
  refine ⟨fun k => c (a1 k), fun q w q1 q2 q3 => ?_⟩
  obtain ⟨b1, b2, b3, b4, b5, b6, b7⟩ := a2 q w q1 q2 q3
  exact ⟨fun k => c (b1 k), fun k hw d hd => let ⟨z, hz⟩ := b2 k hw d hd; ⟨z, e (by decide) hz⟩, fun k => c (b3 k), fun k hw d hd => e (by decide) (b4 k hw d hd), fun k hw b hb => c (b5 k hw b hb), b6, fun k hw => ⟨e (by decide) (b7 k hw).1, c (b7 k hw).2⟩⟩
/-- the copy that a call has made, from T0 on -/
def CPH (T0 T : tyJ) (SL : List Nat) (im : Nat → Nat) : Prop := ∀ t, t ∈ SL → (2 ≤ (yG T0).1 t → ∃ a b : Nat, cov (yG T0) (yC T0) SL im ((yG T0).2.1 t) a ∧ ((yG T0).1 t ≠ 3 → cov (yG T0) (yC T0) SL im ((yG T0).2.2 t) b) ∧ bxT T (im t) ((yG T0).1 t) a b) ∧ (∀ u, yH T0 t u → (yG T0).1 (yC T0 u) ≠ 1 → ∃ v w : Nat, cov (yG T0) (yC T0) SL im u w ∧ yH T (yC T (im t)) v ∧ yC T v = yC T w)
theorem CPH.ex {T0 T T' : tyJ} {SL : List Nat} {im : Nat → Nat} {B res : Nat → Prop} (h : CPH T0 T SL im) (hL : LOC T T' B res) (hz : ∀ x, yN T ≤ x → (yG T).1 x = 0) (g : gP (yG T) (yC T)) (g' : gP (yG T') (yC T')) : CPH T0 T' SL im := by
  intro t ht
  obtain ⟨a1, a2⟩ := h t ht
  refine ⟨fun k => ?_, fun u h1 h2 => ?_⟩
  · obtain ⟨a, b, b1, b2, b3⟩ := a1 k
    exact ⟨a, b, b1, b2, b3.ex k hL hz g g'⟩
  · obtain ⟨v, w, b1, b2, b3⟩ := a2 u h1 h2
    obtain ⟨v', c1, c2⟩ := hL.1.2.2.2 (im t) v b2
    exact ⟨v', w, b1, c1, c2.trans (hL.1.2.2.1 _ _ b3)⟩
/-- all of it: the sides, the equations, the copies -/
def GHO (D : pgD) (G : sgD) (f s t : Nat) (T0 T : tyJ) (σ : tvS) : Prop :=
  (∃ tg, ITP D G f s t (D.bP (f + 1)) T σ tg) ∧ (∀ p, D.bP f ≤ p → p < s → EQx D f T σ p (oT σ p)) ∧ (∀ p, D.bP f ≤ p → p < t → EQp D f T σ p) ∧
  (∀ q, D.bP f ≤ q → q < D.bP (f + 1) → D.K q = 3 → D.vl q < f → ∃ (SL : List Nat) (im : Nat → Nat), CPH T0 T SL im ∧ ∀ i, i < D.cn G q → cov (yG T0) (yC T0) SL im (G.XC (D.vl q) i) (cT σ q i))
theorem oT_of {σ : tvS} {q a : Nat} (h : rd σ 66 q = i32 (a : Int)) (ha : a < 2147483648) : oT σ q = a := by unfold oT; rw [h, i32_ixn (by omega)]
theorem vT_of {σ : tvS} {q a : Nat} (h : rd σ 67 q = i32 (a : Int)) (ha : a < 2147483648) : vT σ q = a := by unfold vT; rw [h, i32_ixn (by omega)]
theorem rT_of {σ : tvS} {q a : Nat} (h : rd σ 68 q = i32 (a : Int)) (ha : a < 2147483648) : rT σ q = a := by unfold rT; rw [h, i32_ixn (by omega)]
