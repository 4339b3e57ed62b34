/-! RUNS: what is still to come is of its types -/
/-- a part puts into a region of this number -/
def PNu (D : pgD) (rg : rgD) (f q k : Nat) : Prop := ((D.K q = 4 ∨ D.K q = 16 ∨ D.K q = 17) ∧ k = rg.nu q 0) ∨ (D.K q = 3 ∧ ∃ i, i < (rg.gl (D.vl q)).length ∧ k = handN D rg f q i)
/-- values on the stack; objects, how many, the next serial number; serial numbers of regions; functions, bases, fns of calls; their regions; where their variables lie -/
abbrev dyD : Type := (Nat → vaL) × ((Nat → obD) × Nat × Nat) × (Nat → Nat) × (Nat → Nat × Nat × Int) × (Nat → Nat → Nat) × (Nat → Nat → Int)
def dyD.sv (X : dyD) : Nat → vaL := X.1
def dyD.hp (X : dyD) : Nat → obD := X.2.1.1
def dyD.no (X : dyD) : Nat := X.2.1.2.1
def dyD.B (X : dyD) : Nat := X.2.1.2.2
def dyD.ser (X : dyD) : Nat → Nat := X.2.2.1
def dyD.fr (X : dyD) : Nat → Nat × Nat × Int := X.2.2.2.1
def dyD.aR (X : dyD) : Nat → Nat → Nat := X.2.2.2.2.1
def dyD.aV (X : dyD) : Nat → Nat → Int := X.2.2.2.2.2
def dyD.ff (X : dyD) (i : Nat) : Nat := (X.fr i).1
def dyD.bs (X : dyD) (i : Nat) : Nat := (X.fr i).2.1
def dyD.fj (X : dyD) (i : Nat) : Int := (X.fr i).2.2
def uq {α : Type} (F : Nat → α) (n : Nat) (x : α) : Nat → α := fun k => if k = n then x else F k
theorem uq_self {α : Type} {F : Nat → α} {n : Nat} {x : α} : uq F n x n = x := if_pos rfl
theorem uq_ne {α : Type} {F : Nat → α} {n k : Nat} {x : α} (h : k ≠ n) : uq F n x k = F k := if_neg h
/-- trees of the call at hand, its regions -/
def COM (rg : rgD) (T : tsD) (X : dyD) (i : Nat) (E : Nat → trE) (nr : Nat) (av : Nat → Prop) : Prop :=
  CONS T.g E ∧ (∀ c z, RGS (E c) z → z < X.B) ∧ ∀ k, av k → 1 ≤ k ∧ k ≤ rg.nK (X.ff i) ∧ X.aR i k < nr ∧ X.ser (X.aR i k) = (E (T.kC (X.ff i) k)).s
/-- what is in scope -/
def SCQ (D : pgD) (rg : rgD) (cd : cdD) (T : tsD) (vd : Nat → Nat) (X : dyD) (i : Nat) (E : Nat → trE) (ty : Nat → trE) (L dd p : Nat) : Prop := ∀ v, v ∈ D.sl p → vd v < dd ∧
  (cd.vo v = cd.fn D p → X.aV i (vd v) = ((X.bs i + cd.sl v : Nat) : Int) ∧ cd.sl v < cd.hg p ∧ ty (X.bs i + cd.sl v) = E (T.vC v)) ∧
  (cd.vo v ≠ cd.fn D p → v ∈ cd.cg (cd.fn D p).toNat → X.aV i (vd v) = -2 - (cd.ci (cd.fn D p) v : Int) ∧ X.bs i < L ∧ ∃ (o : Nat) (w : vaL), X.sv (X.bs i) = (2, i32 (o : Int)) ∧ 1 ≤ o ∧ o ≤ X.no ∧ (X.hp o).kd = 3 ∧ (X.hp o).co[cd.ci (cd.fn D p) v]? = some w ∧ VTy D rg cd T X.hp X.no X.B w (E (T.vC v)))
/-- a part that is under way, or is to come; parts of it below u own no region yet -/
def PRT (D : pgD) (rg : rgD) (cd : cdD) (T : tsD) (vd : Nat → Nat) (X : dyD) (i : Nat) (E : Nat → trE) (ty : Nat → trE) (nr : Nat) (av : Nat → Prop) (L dd p u : Nat) : Prop :=
  (X.ff i ≤ D.fc ∧ D.bP (X.ff i) ≤ p ∧ p < D.bP (X.ff i + 1) ∧ cd.fn D p = X.fj i ∧ dd = (D.sl p).length) ∧ COM rg T X i E nr av ∧ SCQ D rg cd T vd X i E ty L dd p ∧
  (∀ q k, D.st p ≤ q → q ≤ p → PNu D rg (X.ff i) q k → av k ∨ ∃ r : Nat, rg.ow (X.ff i) (k - 1) = (r : Int) ∧ D.st p ≤ r ∧ r < u) ∧
  ∀ k (r : Nat), av k → rg.ow (X.ff i) (k - 1) = (r : Int) → ¬ (D.st p ≤ r ∧ r < u)
/-- which kinds go on how -/
def WKK (w κ : Nat) : Prop := (w = 1 ∧ (κ = 4 ∨ κ = 16 ∨ κ = 5 ∨ κ = 6 ∨ (8 ≤ κ ∧ κ ≤ 15))) ∨ (w = 2 ∧ κ = 18) ∨ (w = 3 ∧ κ = 19) ∨ (w = 4 ∧ κ = 20) ∨ (w = 5 ∧ κ = 3) ∨ (w = 6 ∧ κ = 7)
/-- so many of its parts are done by then -/
def wkN (D : pgD) (w p : Nat) : Nat := if w = 2 ∨ w = 3 ∨ w = 4 then 1 else (D.kd p).length
/-- what is planned is of its types -/
def TK (D : pgD) (rg : rgD) (cd : cdD) (T : tsD) (vd : Nat → Nat) (X : dyD) : List (Nat × Nat × Nat) → Nat → (Nat → trE) → Nat → (Nat → trE) → Nat → (Nat → Prop) → Nat → Nat → Prop
  | [], i, E, n, ty, _, _, _, _ => i = 0 ∧ n = 1 ∧ CONS T.g E ∧ ty 0 = E (T.oC (D.bP (D.fc + 1) - 1))
  | (w, p, b) :: K, i, E, n, ty, nr, av, L, dd =>
    (w = 0 ∧ PRT D rg cd T vd X i E ty nr av L dd p (p + 1) ∧ n = X.bs i + cd.hg p ∧ TK D rg cd T vd X K i E (n + 1) (uq ty n (E (T.oC p))) nr av L dd) ∨
    (w = 7 ∧ b < n ∧ b ≤ L ∧ ty (n - 1) = E (T.oC p) ∧ D.bP (X.ff i) ≤ p ∧ p < D.bP (X.ff i + 1) ∧ ∃ (E0 : Nat → trE) (av0 : Nat → Prop) (nr0 L0 dd0 : Nat), nr0 + (ownN rg (X.ff i) p).length = nr ∧ E0 (T.oC p) = E (T.oC p) ∧ (∀ z, RGS (E (T.oC p)) z → ∀ r, nr0 ≤ r → r < nr → X.ser r ≠ z) ∧ (∀ k, k < b → LVv X.hp X.no X.ser nr0 (X.sv k)) ∧ (∀ k, av0 k → av k) ∧ (∀ k, rg.ow (X.ff i) (k - 1) = (p : Int) → ¬ av0 k) ∧ L0 ≤ b ∧ dd0 ≤ dd ∧
      TK D rg cd T vd X K i E0 (b + 1) (uq ty b (E (T.oC p))) nr0 av0 L0 dd0) ∨
    (w = 8 ∧ ∃ (i0 p' b' : Nat) (K' : List (Nat × Nat × Nat)) (E0 : Nat → trE) (av0 : Nat → Prop) (L0 dd0 : Nat), i = i0 + 1 ∧ K = (7, p', b') :: K' ∧ X.bs i = b' ∧ L0 ≤ L ∧ TK D rg cd T vd X K i0 E0 n ty nr av0 L0 dd0) ∨
    (WKK w (D.K p) ∧ PRT D rg cd T vd X i E ty nr av L dd p p ∧ n = X.bs i + cd.hg p + wkN D w p ∧ X.bs i + cd.hg p = L ∧ (∃ K' : List (Nat × Nat × Nat), K = (7, p, L) :: K') ∧ (∀ j k, j < wkN D w p → (D.kd p)[j]? = some k → ty (X.bs i + cd.hg p + j) = E (T.oC k)) ∧
      ∀ (n' : Nat) (ty' : Nat → trE), X.bs i + cd.hg p < n' → (∀ k, k < X.bs i + cd.hg p → ty' k = ty k) → ty' (n' - 1) = E (T.oC p) → TK D rg cd T vd X K i E n' ty' nr av L dd)
section PLANNED
variable {D : pgD} {rg : rgD} {cd : cdD} {T : tsD} {vd : Nat → Nat} {X X' : dyD} {E : Nat → trE} {ty ty' : Nat → trE} {i n nr L dd p u : Nat} {av : Nat → Prop}
/-- what it rests on stays -/
def DYK (X X' : dyD) (i nr L dd : Nat) (av : Nat → Prop) : Prop :=
  (HOK X.hp X.no ∧ X'.no ≤ 30001) ∧ (∀ k, k < L → X'.sv k = X.sv k) ∧ (∀ o, 1 ≤ o → o ≤ X.no → X'.hp o = X.hp o) ∧ X.no ≤ X'.no ∧ X.B ≤ X'.B ∧ (∀ r, r < nr → X'.ser r = X.ser r) ∧ (∀ j, j ≤ i → X'.fr j = X.fr j) ∧
  (∀ j k, j < i → X'.aR j k = X.aR j k) ∧ (∀ k, av k → X'.aR i k = X.aR i k) ∧ (∀ j e, j < i → X'.aV j e = X.aV j e) ∧ ∀ e, e < dd → X'.aV i e = X.aV i e
theorem DYK.out {nr0 L0 dd0 : Nat} {av0 : Nat → Prop} (h : DYK X X' i nr L dd av) (h1 : nr0 ≤ nr) (h2 : L0 ≤ L) (h3 : dd0 ≤ dd) (h4 : ∀ k, av0 k → av k) : DYK X X' i nr0 L0 dd0 av0 := by
  obtain ⟨a0, a1, a2, a3, a4, a5, a6, a7, a8, a9, a10⟩ := h
  exact ⟨a0, fun k hk => a1 k (by omega), a2, a3, a4, fun r hr => a5 r (by omega), a6, a7, fun k hk => a8 k (h4 k hk), a9, fun e he => a10 e (by omega)⟩
theorem DYK.down {i0 nr0 L0 dd0 : Nat} {av0 : Nat → Prop} (h : DYK X X' i nr L dd av) (hi : i0 < i) (h1 : nr0 ≤ nr) (h2 : L0 ≤ L) : DYK X X' i0 nr0 L0 dd0 av0 := by
  obtain ⟨a0, a1, a2, a3, a4, a5, a6, a7, a8, a9, a10⟩ := h
  exact ⟨a0, fun k hk => a1 k (by omega), a2, a3, a4, fun r hr => a5 r (by omega), fun j hj => a6 j (by omega), fun j k hj => a7 j k (by omega), fun k _ => a7 i0 k hi, fun j e hj => a9 j e (by omega), fun e _ => a9 i0 e hi⟩
theorem COM.to (h : COM rg T X i E nr av) (hd : DYK X X' i nr L dd av) : COM rg T X' i E nr av := by
  obtain ⟨a0, a1, a2, a3, a4, a5, a6, a7, a8, a9, a10⟩ := hd
  obtain ⟨h1, h2, h3⟩ := h
  have ef : X'.ff i = X.ff i := by unfold dyD.ff; rw [a6 i (Nat.le_refl _)]
  refine ⟨h1, fun c z hz => Nat.lt_of_lt_of_le (h2 c z hz) a4, fun k hk => ?_⟩
  obtain ⟨k1, k2, k3, k4⟩ := h3 k hk
  rw [ef, a8 k hk]
  exact ⟨k1, k2, k3, by rw [a5 _ k3]; exact k4⟩
theorem SCQ.to (h : SCQ D rg cd T vd X i E ty L dd p) (hd : DYK X X' i nr L dd av) (ht : ∀ k, k < X.bs i + cd.hg p → ty' k = ty k) : SCQ D rg cd T vd X' i E ty' L dd p := by
  obtain ⟨a0, a1, a2, a3, a4, a5, a6, a7, a8, a9, a10⟩ := hd
  have eb : X'.bs i = X.bs i := by unfold dyD.bs; rw [a6 i (Nat.le_refl _)]
  intro v hv
  obtain ⟨h1, h2, h3⟩ := h v hv
  refine ⟨h1, fun e => ?_, fun e hc => ?_⟩
  · obtain ⟨g1, g2, g3⟩ := h2 e
    rw [a10 _ h1, eb]
    exact ⟨g1, g2, by rw [ht _ (by omega)]; exact g3⟩
  · obtain ⟨g1, g2, o, w, g3, g4, g5, g6, g7, g8⟩ := h3 e hc
    rw [a10 _ h1, eb]
    exact ⟨g1, g2, o, w, by rw [a1 _ g2]; exact g3, g4, by omega, by rw [a2 o g4 g5]; exact g6, by rw [a2 o g4 g5]; exact g7, g8.mono a2 a3 a4⟩
theorem PRT.to (h : PRT D rg cd T vd X i E ty nr av L dd p u) (hd : DYK X X' i nr L dd av) (ht : ∀ k, k < X.bs i + cd.hg p → ty' k = ty k) : PRT D rg cd T vd X' i E ty' nr av L dd p u := by
  obtain ⟨h1, h2, h3, h4⟩ := h
  have ef : X'.fr i = X.fr i := hd.2.2.2.2.2.2.1 i (Nat.le_refl _)
  have e1 : X'.ff i = X.ff i := by unfold dyD.ff; rw [ef]
  have e2 : X'.fj i = X.fj i := by unfold dyD.fj; rw [ef]
  refine ⟨by rw [e1, e2]; exact h1, h2.to hd, h3.to hd ht, ?_⟩
  rw [e1]; exact h4
theorem TK.to : ∀ (K : List (Nat × Nat × Nat)) (i : Nat) (E : Nat → trE) (n : Nat) (ty ty' : Nat → trE) (nr : Nat) (av : Nat → Prop) (L dd : Nat), DYK X X' i nr L dd av → (∀ k, k < n → ty' k = ty k) → TK D rg cd T vd X K i E n ty nr av L dd → TK D rg cd T vd X' K i E n ty' nr av L dd := by
  intro K
  induction K with
  | nil => intro i E n ty ty' nr av L dd _ ht h; exact ⟨h.1, h.2.1, h.2.2.1, by rw [ht 0 (by have := h.2.1; omega)]; exact h.2.2.2⟩
  | cons e K ih =>
    obtain ⟨w, p, b⟩ := e
    intro i E n ty ty' nr av L dd hd ht h
    have ef : X'.fr i = X.fr i := hd.2.2.2.2.2.2.1 i (Nat.le_refl _)
    have e1 : X'.ff i = X.ff i := by unfold dyD.ff; rw [ef]
    have e2 : X'.bs i = X.bs i := by unfold dyD.bs; rw [ef]
    rcases h with ⟨h0, h1, h2, h3⟩ | ⟨h0, h1, h2, h3, h4, h5, E0, av0, nr0, L0, dd0, k1, k2, k3, k4, k5, k6, k7, k8, k9⟩ | ⟨h0, i0, p', b', K', E0, av0, L0, dd0, k1, k2, k3, k4, k5⟩ | ⟨h0, h1, h2, h3, h3', h4, h5⟩
    · refine .inl ⟨h0, h1.to hd (fun k hk => ht k (by omega)), by rw [e2]; exact h2, ih i E (n + 1) _ _ nr av L dd hd (fun k hk => ?_) h3⟩
      by_cases q : k = n
      · subst q; rw [uq_self, uq_self]
      · rw [uq_ne q, uq_ne q]; exact ht k (by omega)
    · refine .inr (.inl ⟨h0, h1, h2, by rw [ht _ (by omega)]; exact h3, by rw [e1]; exact h4, by rw [e1]; exact h5, E0, av0, nr0, L0, dd0, by rw [e1]; exact k1, k2, fun z hz r r1 r2 => ?_, fun k hk => ?_, k5, by rw [e1]; exact k6, k7, k8, ih i E0 (b + 1) _ _ nr0 av0 L0 dd0 (hd.out (by omega) (by omega) k8 k5) (fun k hk => ?_) k9⟩)
      · rw [hd.2.2.2.2.2.1 r r2]; exact k3 z hz r r1 r2
      · obtain ⟨a0, a1, a2, a3, a4, a5, _⟩ := hd
        rw [a1 k (by omega)]
        exact (k4 k hk).mono a0.2 a0.1 a3 a2 (Nat.le_refl _) (fun r hr => a5 r (by omega))
      · by_cases q : k = b
        · subst q; rw [uq_self, uq_self]
        · rw [uq_ne q, uq_ne q]; exact ht k (by omega)
    · exact .inr (.inr (.inl ⟨h0, i0, p', b', K', E0, av0, L0, dd0, k1, k2, by rw [e2]; exact k3, k4, ih i0 E0 n ty ty' nr av0 L0 dd0 (hd.down (by omega) (Nat.le_refl _) k4) ht k5⟩))
    · refine .inr (.inr (.inr ⟨h0, h1.to hd (fun k hk => ht k (by omega)), by rw [e2]; exact h2, by rw [e2]; exact h3, h3', fun j k hj hk => ?_, fun n' ty'' g1 g2 g3 => ?_⟩))
      · rw [e2, ht _ (by omega)]; exact h4 j k hj hk
      · rw [e2] at g1 g2
        exact ih i E n' ty'' ty'' nr av L dd hd (fun _ _ => rfl) (h5 n' ty'' g1 (fun k hk => by rw [g2 k hk, ht k (by omega)]) g3)
/-- more is told to be there -/
theorem SCQ.up {L' : Nat} (h : SCQ D rg cd T vd X i E ty L dd p) (hL : L ≤ L') : SCQ D rg cd T vd X i E ty L' dd p := fun v hv => by
  obtain ⟨h1, h2, h3⟩ := h v hv
  refine ⟨h1, h2, fun e hc => ?_⟩
  obtain ⟨g1, g2, g3⟩ := h3 e hc
  exact ⟨g1, by omega, g3⟩
end PLANNED
