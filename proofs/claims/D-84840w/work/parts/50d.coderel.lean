/-! CODE: what stands for a part -/
/-- what code speaks of: kinds of variables' owners, slots, what a fn has caught; words of numbers -/
abbrev cdD : Type := (Nat → Int) × (Nat → Nat) × (Nat → Nat) × (Nat → List Nat) × (Nat → Int32)
def cdD.vo (c : cdD) : Nat → Int := c.1
def cdD.sl (c : cdD) : Nat → Nat := c.2.1
def cdD.hg (c : cdD) : Nat → Nat := c.2.2.1
def cdD.cg (c : cdD) : Nat → List Nat := c.2.2.2.1
def cdD.vw (c : cdD) : Nat → Int32 := c.2.2.2.2
/-- the fn that a part stands in -/
def cdD.fn (c : cdD) (D : pgD) (p : Nat) : Int := match D.sl p with
  | [] => -1
  | v :: _ => c.vo v
/-- which of a fn's caught variables -/
def cdD.ci (c : cdD) (j : Int) (v : Nat) : Nat := (c.cg j.toNat).idxOf v
/-- numbers that a part owns -/
noncomputable def ownN (rg : rgD) (f p : Nat) : List Nat := nfil (fun k => rg.ow f k = (p : Int)) (rg.nK f)
/-- the region that a call hands on -/
noncomputable def handN (D : pgD) (rg : rgD) (f p i : Nat) : Nat := if D.vl p = f then (rg.gl f).getD i 0 else rg.nu p i
/-- code of parts side by side -/
def KCH (C : Nat → Nat → Nat → Prop) : List Nat → Nat → Nat → Prop
  | [], a, b => a = b
  | k :: r, a, b => ∃ x, C k a x ∧ KCH C r x b
/-- code of a part without its regions -/
def INN (D : pgD) (rg : rgD) (cd : cdD) (R : Nat → Int32) (f : Nat) (C : Nat → Nat → Nat → Prop) (p a b : Nat) : Prop :=
  (D.K p = 0 → R a = 3 ∧ R (a + 1) = cd.vw p ∧ b = a + 2) ∧ (D.K p = 1 → R a = 4 ∧ b = a + 1) ∧
  (D.K p = 2 → b = a + 2 ∧ ((cd.vo (D.vl p) = cd.fn D p ∧ R a = 5 ∧ R (a + 1) = i32 (cd.sl (D.vl p) : Int)) ∨ (cd.vo (D.vl p) ≠ cd.fn D p ∧ R a = 6 ∧ R (a + 1) = i32 (cd.ci (cd.fn D p) (D.vl p) : Int)))) ∧
  (D.K p = 3 → ∃ x, KCH C (D.kd p) a x ∧ R x = 24 ∧ R (x + 1) = i32 (D.vl p : Int) ∧ R (x + 2) = i32 ((rg.gl (D.vl p)).length : Int) ∧ b = x + 3 + 2 * (rg.gl (D.vl p)).length ∧ ∀ i, i < (rg.gl (D.vl p)).length → R (x + 3 + 2 * i) = i32 (handN D rg f p i : Int) ∧ R (x + 4 + 2 * i) = i32 ((rg.gl (D.vl p)).getD i 0 : Nat)) ∧
  (D.K p = 4 ∨ D.K p = 16 → ∃ x, KCH C (D.kd p) a x ∧ R x = (if D.K p = 4 then 7 else 8) ∧ R (x + 1) = i32 (rg.nu p 0 : Int) ∧ b = x + 2) ∧
  (D.K p = 5 ∨ D.K p = 6 ∨ D.K p = 7 ∨ (8 ≤ D.K p ∧ D.K p ≤ 15) → ∃ x, KCH C (D.kd p) a x ∧ R x = (if D.K p = 5 then 10 else if D.K p = 6 then 11 else if D.K p = 7 then 25 else i32 ((4 + D.K p : Nat) : Int)) ∧ b = x + 1) ∧
  (D.K p = 17 → R a = 9 ∧ R (a + 1) = i32 (rg.nu p 0 : Int) ∧ R (a + 2) = i32 (D.vl p : Int) ∧ b = a + 3 + 2 * (cd.cg (D.vl p)).length ∧ ∀ i, i < (cd.cg (D.vl p)).length → (cd.vo ((cd.cg (D.vl p)).getD i 0) = cd.fn D p ∧ R (a + 3 + 2 * i) = 0 ∧ R (a + 4 + 2 * i) = i32 (cd.sl ((cd.cg (D.vl p)).getD i 0) : Int)) ∨ (cd.vo ((cd.cg (D.vl p)).getD i 0) ≠ cd.fn D p ∧ R (a + 3 + 2 * i) = 1 ∧ R (a + 4 + 2 * i) = i32 (cd.ci (cd.fn D p) ((cd.cg (D.vl p)).getD i 0) : Int))) ∧
  (D.K p = 18 → ∃ k0 k1 k2 x y : Nat, D.kd p = [k0, k1, k2] ∧ C k0 a x ∧ R x = 20 ∧ R (x + 1) = i32 ((y + 2 : Nat) : Int) ∧ C k1 (x + 2) y ∧ R y = 21 ∧ R (y + 1) = i32 (b : Int) ∧ C k2 (y + 2) b) ∧
  (D.K p = 19 → ∃ k0 k1 x y : Nat, D.kd p = [k0, k1] ∧ C k0 a x ∧ C k1 x y ∧ R y = 23 ∧ R (y + 1) = 1 ∧ b = y + 2) ∧
  (D.K p = 20 → ∃ k0 k1 k2 x y : Nat, D.kd p = [k0, k1, k2] ∧ C k0 a x ∧ R x = 22 ∧ R (x + 1) = i32 ((y + 4 : Nat) : Int) ∧ C k2 (x + 2) y ∧ R y = 23 ∧ R (y + 1) = 2 ∧ R (y + 2) = 21 ∧ R (y + 3) = i32 (b : Int) ∧ C k1 (y + 4) b)
/-- code of a part -/
def CA (D : pgD) (rg : rgD) (cd : cdD) (R : Nat → Int32) (f : Nat) : Nat → Nat → Nat → Nat → Prop
  | 0, _, _, _ => False
  | n + 1, p, a, b => R a = 0 ∧ (∀ i, i < (ownN rg f p).length → R (a + 1 + 2 * i) = 1 ∧ R (a + 2 + 2 * i) = i32 ((ownN rg f p).getD i 0 : Nat)) ∧ ∃ e, INN D rg cd R f (CA D rg cd R f n) p (a + 1 + 2 * (ownN rg f p).length) e ∧ a + 1 + 2 * (ownN rg f p).length < e ∧ ((ownN rg f p = [] ∧ b = e) ∨ (ownN rg f p ≠ [] ∧ R e = 2 ∧ R (e + 1) = i32 ((ownN rg f p).length : Int) ∧ b = e + 2))
section CODEREL
variable {D : pgD} {rg : rgD} {cd : cdD} {R R' : Nat → Int32} {f : Nat}
theorem KCH.le {C : Nat → Nat → Nat → Prop} (hC : ∀ k a b, C k a b → a < b) : ∀ (l : List Nat) (a b : Nat), KCH C l a b → a ≤ b := by
  intro l
  induction l with
  | nil => intro a b h; have h : a = b := h; omega
  | cons k r ih =>
    intro a b h
    obtain ⟨x, h1, h2⟩ := h
    have := hC k a x h1
    have := ih x b h2
    omega
theorem KCH.to {C C' : Nat → Nat → Nat → Prop} (hC : ∀ k a b, C k a b → a < b) : ∀ (l : List Nat) (a b A B : Nat), A ≤ a → b ≤ B → (∀ k x y, k ∈ l → A ≤ x → y ≤ B → C k x y → C' k x y) → KCH C l a b → KCH C' l a b := by
  intro l
  induction l with
  | nil => intro a b A B _ _ _ h; exact h
  | cons k r ih =>
    intro a b A B h1 h2 h3 h
    obtain ⟨x, g1, g2⟩ := h
    have l1 := hC k a x g1
    have l2 := KCH.le hC r x b g2
    exact ⟨x, h3 k a x List.mem_cons_self h1 (by omega) g1, ih x b A B (by omega) h2 (fun k' x' y' hk => h3 k' x' y' (List.mem_cons_of_mem _ hk)) g2⟩
theorem CA.lt : ∀ (n p a b : Nat), CA D rg cd R f n p a b → a < b := by
  intro n p a b h
  cases n with
  | zero => exact h.elim
  | succ n =>
    obtain ⟨_, _, e, _, h2, h3⟩ := h
    rcases h3 with ⟨_, h3⟩ | ⟨_, _, _, h3⟩ <;> omega
/-- it is told by the row within -/
theorem CA.to : ∀ (n p a b : Nat), CA D rg cd R f n p a b → (∀ i, a ≤ i → i < b → R' i = R i) → CA D rg cd R' f n p a b := by
  intro n
  induction n with
  | zero => intro p a b h; exact h.elim
  | succ n ih =>
    intro p a b h hR
    obtain ⟨h1, h2, e, h3, h4, h5⟩ := h
    have he : e ≤ b := by rcases h5 with ⟨_, h5⟩ | ⟨_, _, _, h5⟩ <;> omega
    have lt := CA.lt (D := D) (rg := rg) (cd := cd) (R := R) (f := f) n
    have kt : ∀ (l : List Nat) (x y : Nat), a ≤ x → y ≤ b → KCH (CA D rg cd R f n) l x y → KCH (CA D rg cd R' f n) l x y := fun l x y hx hy hk => KCH.to lt l x y a b hx hy (fun k x' y' _ q1 q2 q3 => ih k x' y' q3 (fun i i1 i2 => hR i (by omega) (by omega))) hk
    have kl := KCH.le (C := CA D rg cd R f n) lt
    refine ⟨by rw [hR a (Nat.le_refl _) (by omega)]; exact h1, fun i hi => ?_, e, ?_, h4, ?_⟩
    · rw [hR _ (by omega) (by omega), hR _ (by omega) (by omega)]; exact h2 i hi
    · obtain ⟨k0, k1, k2, k3, k4, k5, k17, k18, k19, k20⟩ := h3
      refine ⟨fun q => ?_, fun q => ?_, fun q => ?_, fun q => ?_, fun q => ?_, fun q => ?_, fun q => ?_, fun q => ?_, fun q => ?_, fun q => ?_⟩
      · obtain ⟨a1, a2, a3⟩ := k0 q
        exact ⟨by rw [hR _ (by omega) (by omega)]; exact a1, by rw [hR _ (by omega) (by omega)]; exact a2, a3⟩
      · obtain ⟨a1, a3⟩ := k1 q
        exact ⟨by rw [hR _ (by omega) (by omega)]; exact a1, a3⟩
      · obtain ⟨a1, a2⟩ := k2 q
        rw [hR _ (by omega) (by omega), hR _ (by omega) (by omega)]
        exact ⟨a1, a2⟩
      · obtain ⟨x, a1, a2, a3, a4, a5, a6⟩ := k3 q
        have := kl _ _ _ a1
        refine ⟨x, kt _ _ _ (by omega) (by omega) a1, by rw [hR _ (by omega) (by omega)]; exact a2, by rw [hR _ (by omega) (by omega)]; exact a3, by rw [hR _ (by omega) (by omega)]; exact a4, a5, fun i hi => ?_⟩
        rw [hR _ (by omega) (by omega), hR _ (by omega) (by omega)]; exact a6 i hi
      · obtain ⟨x, a1, a2, a3, a4⟩ := k4 q
        have := kl _ _ _ a1
        exact ⟨x, kt _ _ _ (by omega) (by omega) a1, by rw [hR _ (by omega) (by omega)]; exact a2, by rw [hR _ (by omega) (by omega)]; exact a3, a4⟩
      · obtain ⟨x, a1, a2, a3⟩ := k5 q
        have := kl _ _ _ a1
        exact ⟨x, kt _ _ _ (by omega) (by omega) a1, by rw [hR _ (by omega) (by omega)]; exact a2, a3⟩
      · obtain ⟨a1, a2, a3, a4, a5⟩ := k17 q
        refine ⟨by rw [hR _ (by omega) (by omega)]; exact a1, by rw [hR _ (by omega) (by omega)]; exact a2, by rw [hR _ (by omega) (by omega)]; exact a3, a4, fun i hi => ?_⟩
        rw [hR _ (by omega) (by omega), hR _ (by omega) (by omega)]; exact a5 i hi
      · obtain ⟨c0, c1, c2, x, y, a0, a1, a2, a3, a4, a5, a6, a7⟩ := k18 q
        have l1 := lt _ _ _ a1
        have l2 := lt _ _ _ a4
        have l3 := lt _ _ _ a7
        exact ⟨c0, c1, c2, x, y, a0, ih _ _ _ a1 (fun i i1 i2 => hR i (by omega) (by omega)), by rw [hR _ (by omega) (by omega)]; exact a2, by rw [hR _ (by omega) (by omega)]; exact a3, ih _ _ _ a4 (fun i i1 i2 => hR i (by omega) (by omega)), by rw [hR _ (by omega) (by omega)]; exact a5, by rw [hR _ (by omega) (by omega)]; exact a6, ih _ _ _ a7 (fun i i1 i2 => hR i (by omega) (by omega))⟩
      · obtain ⟨c0, c1, x, y, a0, a1, a2, a3, a4, a5⟩ := k19 q
        have l1 := lt _ _ _ a1
        have l2 := lt _ _ _ a2
        exact ⟨c0, c1, x, y, a0, ih _ _ _ a1 (fun i i1 i2 => hR i (by omega) (by omega)), ih _ _ _ a2 (fun i i1 i2 => hR i (by omega) (by omega)), by rw [hR _ (by omega) (by omega)]; exact a3, by rw [hR _ (by omega) (by omega)]; exact a4, a5⟩
      · obtain ⟨c0, c1, c2, x, y, a0, a1, a2, a3, a4, a5, a6, a7, a8, a9⟩ := k20 q
        have l1 := lt _ _ _ a1
        have l2 := lt _ _ _ a4
        have l3 := lt _ _ _ a9
        exact ⟨c0, c1, c2, x, y, a0, ih _ _ _ a1 (fun i i1 i2 => hR i (by omega) (by omega)), by rw [hR _ (by omega) (by omega)]; exact a2, by rw [hR _ (by omega) (by omega)]; exact a3, ih _ _ _ a4 (fun i i1 i2 => hR i (by omega) (by omega)), by rw [hR _ (by omega) (by omega)]; exact a5, by rw [hR _ (by omega) (by omega)]; exact a6, by rw [hR _ (by omega) (by omega)]; exact a7, by rw [hR _ (by omega) (by omega)]; exact a8, ih _ _ _ a9 (fun i i1 i2 => hR i (by omega) (by omega))⟩
    · rcases h5 with ⟨a1, a2⟩ | ⟨a1, a2, a3, a4⟩
      · exact .inl ⟨a1, a2⟩
      · exact .inr ⟨a1, by rw [hR _ (by omega) (by omega)]; exact a2, by rw [hR _ (by omega) (by omega)]; exact a3, a4⟩
end CODEREL
