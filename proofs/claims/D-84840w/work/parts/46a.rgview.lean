/-! FROM THE READERS TO THE PROGRAM: scopes, captured variables, names -/
section RGVIEW
variable {K1 K2 m : Nat} {μ : Nat → Nat} {fc : Nat} {σ τ σ' τ' : tvS} {bk bP tV bF bS : Nat → Nat} {D : pgD}
/-- what the component has of scopes and captured variables -/
def RGC (D : pgD) (m : Nat) (cp : Nat → List (Nat × Nat)) (σ : tvS) : Prop :=
  (∀ p, p < D.bP (D.fc + 1) → chC σ (D.sl p) (rd σ 28 p)) ∧ (ln σ 41 = ln σ 40 ∧ ln σ 40 ≤ 65536) ∧
  (∀ j, j < D.bF (D.fc + 1) → capL σ (cp j) (rd σ 37 j) ∧ (cp j).length ≤ 40 ∧ ∀ e, e ∈ cp j → e.1 < ln σ 40 ∧ e.2 < 4101) ∧
  (∀ p, p < D.bP (D.fc + 1) → D.K p = 17 → ∀ v, (v ∈ (cp (D.vl p)).map Prod.snd ↔ ∃ q, D.st p ≤ q ∧ q < p ∧ D.K q = 2 ∧ D.vl q = v ∧ v ∈ D.sl p)) ∧
  ∀ f, f ≤ D.fc → ∃ l : Nat, l < m ∧ rd σ 43 f = i32 (l : Int)
/-- the model's scopes -/
def RGM (D : pgD) (bS : Nat → Nat) (vs us sc : Nat → Nat) (cl : Nat → List Nat) (σ τ : tvS) : Prop := (∀ f, f ≤ D.fc → SCm D f (bS f) (bS (f + 1)) vs us sc cl τ) ∧ ∀ f, f ≤ D.fc → rd τ 139 f = rd σ 43 f
theorem capW_iff {p0 : Nat} {l : List Nat} {v : Nat} : ∀ k, v ∈ capW σ p0 k l ↔ ∃ i, i < k ∧ rd σ 16 (p0 + i) = i32 2 ∧ ix (rd σ 27 (p0 + i)) = v ∧ v ∈ l := by
  intro k
  induction k with
  | zero => exact ⟨fun h => (by cases h), fun ⟨i, h, _⟩ => by omega⟩
  | succ k ih =>
    have up : (∃ i, i < k + 1 ∧ rd σ 16 (p0 + i) = i32 2 ∧ ix (rd σ 27 (p0 + i)) = v ∧ v ∈ l) ↔ (∃ i, i < k ∧ rd σ 16 (p0 + i) = i32 2 ∧ ix (rd σ 27 (p0 + i)) = v ∧ v ∈ l) ∨ (rd σ 16 (p0 + k) = i32 2 ∧ ix (rd σ 27 (p0 + k)) = v ∧ v ∈ l) := by
      constructor
      · rintro ⟨i, h1, h2⟩
        by_cases e : i = k
        · rw [e] at h2; exact .inr h2
        · exact .inl ⟨i, by omega, h2⟩
      · rintro (⟨i, h1, h2⟩ | h)
        · exact ⟨i, by omega, h2⟩
        · exact ⟨k, by omega, h⟩
    rw [up, ← ih]
    show v ∈ (if rd σ 16 (p0 + k) = i32 2 ∧ ix (rd σ 27 (p0 + k)) ∈ l ∧ ix (rd σ 27 (p0 + k)) ∉ capW σ p0 k l then capW σ p0 k l ++ [ix (rd σ 27 (p0 + k))] else capW σ p0 k l) ↔ _
    by_cases c : rd σ 16 (p0 + k) = i32 2 ∧ ix (rd σ 27 (p0 + k)) ∈ l ∧ ix (rd σ 27 (p0 + k)) ∉ capW σ p0 k l
    · rw [if_pos c, List.mem_append, List.mem_singleton]
      constructor
      · rintro (h | h)
        · exact .inl h
        · exact .inr ⟨c.1, h.symm, by rw [h]; exact c.2.1⟩
      · rintro (h | h)
        · exact .inl h
        · exact .inr h.2.1.symm
    · rw [if_neg c]
      refine ⟨.inl, fun h => h.elim id (fun h => ?_)⟩
      apply Classical.byContradiction
      intro g
      exact c ⟨h.1, by rw [h.2.1]; exact h.2.2, by rw [h.2.1]; exact g⟩
def scLl (vs us : Nat → Nat) : Nat → Nat → List Nat
  | 0, _ => []
  | k + 1, s => if s = 0 then [] else vs s :: scLl vs us k (us s)
theorem scLl_0 {vs us : Nat → Nat} : ∀ k, scLl vs us k 0 = [] := by
  intro k
  cases k with
  | zero => rfl
  | succ k => exact if_pos rfl
theorem scLl_eq {vs us : Nat → Nat} {S0 S1 : Nat} (h : ∀ s, S0 < s → s ≤ S1 → us s < s ∧ (us s = 0 ∨ S0 < us s)) : ∀ (k k' t : Nat), t ≤ k → t ≤ k' → (t = 0 ∨ (S0 < t ∧ t ≤ S1)) → scLl vs us k t = scLl vs us k' t := by
  intro k
  induction k with
  | zero => intro k' t h1 _ _; rw [show t = 0 by omega, scLl_0, scLl_0]
  | succ k ih =>
    intro k' t h1 h1' h2
    by_cases e : t = 0
    · rw [e, scLl_0, scLl_0]
    · obtain ⟨k2, rfl⟩ : ∃ k2, k' = k2 + 1 := ⟨k' - 1, by omega⟩
      obtain ⟨a, b⟩ := h2.resolve_left e
      obtain ⟨g1, g2⟩ := h _ a b
      show (if t = 0 then [] else vs t :: scLl vs us k (us t)) = (if t = 0 then [] else vs t :: scLl vs us k2 (us t))
      rw [if_neg e, if_neg e, ih k2 (us t) (by omega) (by omega) (g2.imp id (fun k => ⟨k, by omega⟩))]
theorem chM.cl {vs us : Nat → Nat} {S S0 S1 : Nat} (hv : ∀ s, vs s = ix (rd τ 149 s)) (hu : ∀ s, us s = ix (rd τ 150 s)) (h : ∀ s, S0 < s → s ≤ S1 → us s < s ∧ (us s = 0 ∨ S0 < us s)) (hS : S < 5000) : ∀ (l : List Nat) (x : Int32), chM τ S l x → (∀ v, v ∈ l → v < 5000) → (ix x = 0 ∨ (S0 < ix x ∧ ix x ≤ S1)) → scLl vs us (ix x) (ix x) = l := by
  intro l
  induction l with
  | nil =>
    intro x hx _ _
    have hx : x = 0 := hx
    rw [hx]; rfl
  | cons v l ih =>
    intro x hx hl hr
    obtain ⟨s, h1, h2, h3, h4, h5⟩ := hx
    have e : ix x = s := by rw [h3, i32_ixn (by omega)]
    rw [e] at hr ⊢
    obtain ⟨a, b⟩ := hr.resolve_left (by omega)
    obtain ⟨g1, g2⟩ := h s a b
    obtain ⟨s', rfl⟩ : ∃ s', s = s' + 1 := ⟨s - 1, by omega⟩
    have g3 : us (s' + 1) = 0 ∨ (S0 < us (s' + 1) ∧ us (s' + 1) ≤ S1) := g2.imp id (fun k => ⟨k, by omega⟩)
    show (if s' + 1 = 0 then [] else vs (s' + 1) :: scLl vs us s' (us (s' + 1))) = _
    rw [if_neg (by omega), scLl_eq h s' (us (s' + 1)) (us (s' + 1)) (by omega) (Nat.le_refl _) g3]
    have hv2 := hl v List.mem_cons_self
    rw [hv, h4, i32_ixn (by omega)]
    congr 1
    have := ih (rd τ 150 (s' + 1)) h5 (fun v hv => hl v (List.mem_cons_of_mem _ hv)) (by rw [← hu]; exact g3)
    rw [← hu] at this
    exact this
theorem RGC.to {cp : Nat → List (Nat × Nat)} (h : RGC D m cp σ) (hc : ∀ j, inL [28, 32, 33, 37, 40, 41, 43] j = true → ∀ i, rd σ' j i = rd σ j i) (hl : ln σ' 40 = ln σ 40 ∧ ln σ' 41 = ln σ 41) : RGC D m cp σ' := by
  obtain ⟨h1, h2, h3, h4, h5⟩ := h
  refine ⟨fun p hp => ?_, by rw [hl.1, hl.2]; exact h2, fun j hj => ?_, h4, fun f hf => by rw [hc 43 rfl]; exact h5 f hf⟩
  · rw [hc 28 rfl]
    exact (h1 p hp).congr _ _ (fun v _ => ⟨hc 33 rfl v, hc 32 rfl v⟩)
  · obtain ⟨a1, a2, a3⟩ := h3 j hj
    rw [hc 37 rfl, hl.1]
    exact ⟨capL.congr _ _ a1 (fun q _ => ⟨hc 40 rfl _, hc 41 rfl _⟩), a2, a3⟩
theorem RGM.to {vs us sc : Nat → Nat} {cl : Nat → List Nat} (h : RGM D bS vs us sc cl σ τ) (h43 : ∀ i, rd σ' 43 i = rd σ 43 i) (hm : ∀ j, inL [139, 149, 150, 160, 202] j = true → ∀ i, rd τ' j i = rd τ j i) : RGM D bS vs us sc cl σ' τ' := by
  refine ⟨fun f hf => ?_, fun f hf => by rw [h43, hm 139 rfl]; exact h.2 f hf⟩
  obtain ⟨a1, a2, a3, a4⟩ := h.1 f hf
  exact ⟨by rw [hm 202 rfl, hm 202 rfl]; exact a1, fun s h1 h2 => by rw [hm 149 rfl, hm 150 rfl]; exact a2 s h1 h2, a3, fun p h1 h2 => by rw [hm 160 rfl]; exact a4 p h1 h2⟩
theorem PRG0.rgc (h : PRG0 K1 K2 m μ fc bk bP tV bF bS σ τ) (hD : (D.fc = fc ∧ D.bk = bk ∧ D.bP = bP ∧ D.tV = tV ∧ D.bF = bF) ∧ PGF D m ∧ PGR D σ τ ∧ ∀ p, p < bP (fc + 1) → chC σ (D.sl p) (rd σ 28 p) ∧ D.K p = ix (rd σ 16 p) ∧ D.vl p = ix (rd σ 27 p) ∧ D.st p = ix (rd σ 26 p)) : ∃ cp, RGC D m cp σ ∧ ∀ p, p < D.bP (D.fc + 1) → D.K p = 17 → (cp (D.vl p)).map Prod.snd = capW σ (D.st p) (p - D.st p) (D.sl p) := by
  obtain ⟨hc, hT, _⟩ := h
  obtain ⟨⟨e1, e2, e3, e4, e5⟩, hF, hR, hp⟩ := hD
  obtain ⟨V, S, C, q, cp, hLV, _, _, _, _, _, _, _, _, _, _, hRm, hCa⟩ := hc
  obtain ⟨k1, k2, k3, k4, k5, k6, k7, k8, k9⟩ := hCa
  obtain ⟨s1, s2, s3, s4⟩ := k1
  have key' : ∀ p, p < D.bP (D.fc + 1) → D.K p = 17 → D.st p ≤ p ∧ (cp (D.vl p)).map Prod.snd = capW σ (D.st p) (p - D.st p) (D.sl p) := fun p hp' h17 => by
    have hp2 : p < bP (fc + 1) := by rw [← e1, ← e3]; exact hp'
    obtain ⟨b1, b2, b3, b4⟩ := hp p hp2
    have h16 : rd σ 16 p = i32 17 := by
      have := (hR.2 p hp').1.1
      rw [h17] at this; exact this
    obtain ⟨f, s, l, c1, c2, c3, c4, c5, c6, c7⟩ := k8 p hp2 h16
    have hb4 := hF.1
    have hpl : p < 4001 := by rw [← e3, ← e1] at hp2; omega
    have ef : D.vl p = f := by
      have hvl : D.vl p < 4001 := by
        have : D.bF (D.fc + 1) ≤ 1000 := by omega
        have hpf : ∃ g, g ≤ D.fc ∧ D.bP g ≤ p ∧ p < D.bP (g + 1) := by
          apply Classical.byContradiction
          intro hn
          have : ∀ g, g ≤ D.fc + 1 → D.bP g ≤ p := by
            intro g
            induction g with
            | zero => intro _; rw [hF.2.1.1]; exact Nat.zero_le _
            | succ g ih =>
              intro hg
              apply Classical.byContradiction
              intro k
              exact hn ⟨g, by omega, ih (by omega), by omega⟩
          have := this (D.fc + 1) (Nat.le_refl _)
          omega
        obtain ⟨g, g1, g2, g3⟩ := hpf
        have := ((hF.2.2 g g1).2.2.1 p g2 g3).2.2.2.2.2.2.1 h17
        have hle : ∀ j g, g + j = D.fc + 1 → D.bF g ≤ D.bF (D.fc + 1) := by
          intro j
          induction j with
          | zero => intro g e; rw [show g = D.fc + 1 by omega]; exact Nat.le_refl _
          | succ j ih => intro g e; exact Nat.le_trans (hF.2.2 g (by omega)).1.2.2.1 (ih (g + 1) (by omega))
        have := hle (D.fc - g) (g + 1) (by omega)
        omega
      rw [b3, c1, i32_ixn]
      have h27 := ((hR.2 p hp').2.2.2.2.2.1 h17).1
      rw [c1] at h27
      have hf : f < bF (fc + 1) := c2
      rw [← e5, ← e1] at hf
      omega
    have es : D.st p = s := by rw [b4, c4, i32_ixn (by omega)]
    have el : D.sl p = l := chC.uni _ _ _ b1 c6
    rw [ef, c7, es, el]
    exact ⟨by omega, rfl⟩
  have key : ∀ p, p < D.bP (D.fc + 1) → D.K p = 17 → (cp (D.vl p)).map Prod.snd = capW σ (D.st p) (p - D.st p) (D.sl p) := fun p h1 h2 => (key' p h1 h2).2
  have stp : ∀ p, p < D.bP (D.fc + 1) → D.K p = 17 → D.st p ≤ p := fun p h1 h2 => (key' p h1 h2).1
  refine ⟨cp, ⟨fun p hp' => (hp p (by rw [← e1, ← e3]; exact hp')).1, ⟨hRm.1, ?_⟩, fun j hj => ?_, fun p hp' h17 v => ?_, fun f hf => ?_⟩, key⟩
  · rcases hRm.2.1 with k | k | k | k | k | k | k <;> omega
  · have hj : j < bF (fc + 1) := by rw [← e1, ← e5]; exact hj
    obtain ⟨a1, a2, a3, a4, a5, a6⟩ := s4.1 j hj
    exact ⟨a1, a4, fun e he => ⟨Nat.lt_of_lt_of_le (a5 e he) s2, k7 j hj e he⟩⟩
  · rw [key p hp' h17, capW_iff]
    have hp2 : p < bP (fc + 1) := by rw [← e1, ← e3]; exact hp'
    have hsp := stp p hp' h17
    constructor
    · rintro ⟨i, i1, i2, i3, i4⟩
      have hq : D.st p + i < bP (fc + 1) := by omega
      obtain ⟨_, d2, d3, _⟩ := hp (D.st p + i) hq
      refine ⟨D.st p + i, by omega, by omega, ?_, by rw [d3]; exact i3, i4⟩
      rw [d2, i2]; rfl
    · rintro ⟨q', q1, q2, q3, q4, q5⟩
      obtain ⟨_, d2, d3, _⟩ := hp q' (by omega)
      refine ⟨q' - D.st p, by omega, ?_, ?_, q5⟩
      · rw [show D.st p + (q' - D.st p) = q' by omega]
        have := (hR.2 q' (by rw [e1, e3]; omega)).1.1
        rw [q3] at this; exact this
      · rw [show D.st p + (q' - D.st p) = q' by omega, ← d3]; exact q4
  · obtain ⟨l, l1, l2, l3⟩ := (hT f (by rw [e1] at hf; omega)).1.1
    exact ⟨l, l1, l2⟩
theorem PRG0.rgm (h : PRG0 K1 K2 m μ fc bk bP tV bF bS σ τ) (hD : (D.fc = fc ∧ D.bk = bk ∧ D.bP = bP ∧ D.tV = tV ∧ D.bF = bF) ∧ PGF D m ∧ PGR D σ τ ∧ ∀ p, p < bP (fc + 1) → chC σ (D.sl p) (rd σ 28 p) ∧ D.K p = ix (rd σ 16 p) ∧ D.vl p = ix (rd σ 27 p) ∧ D.st p = ix (rd σ 26 p)) : ∃ vs us sc cl, RGM D bS vs us sc cl σ τ := by
  obtain ⟨hc, hT, ⟨t1, t2, t3, t4⟩, ⟨u1, u2, u3⟩, u4, u5, ⟨u6, u7⟩, u8, u9, u10, u11⟩ := h
  obtain ⟨⟨e1, e2, e3, e4, e5⟩, hF, hR, hp⟩ := hD
  have hb4 := hF.1
  have hm := hb4.2.1
  have hle := hT.le
  obtain ⟨S, hpr, hS, hSe⟩ : ∃ S, (∀ p, p < bP (fc + 1) → prtR m S σ τ p) ∧ S ≤ m ∧ S = bS (fc + 1) := by
    obtain ⟨V, S, C, q, cp, _, _, _, h4, _, _, _, _, _, hsp, hpr, _⟩ := hc
    have h42 := hsp.2.2.2.2.2.2.2
    have h4' := h4.2.2.2
    rw [u5] at h42
    have := (i32_inj (by omega) (by omega) (by omega) (by omega)).mp h42
    exact ⟨S, hpr, h4', by omega⟩
  -- scopes of a function
  have hus : ∀ f, f ≤ fc → ∀ s, bS f < s → s ≤ bS (f + 1) → (ix (rd τ 150 s) < s ∧ (ix (rd τ 150 s) = 0 ∨ bS f < ix (rd τ 150 s))) ∧ (tV f ≤ ix (rd τ 149 s) ∧ ix (rd τ 149 s) < tV (f + 1)) ∧ rd τ 149 s = i32 (ix (rd τ 149 s) : Int) ∧ rd τ 150 s = i32 (ix (rd τ 150 s) : Int) := fun f hf s s1 s2 => by
    obtain ⟨_, e1, e2, e3, _, _, _, _, e14, _⟩ := hT f (by omega)
    obtain ⟨z, c1, c2, c3, c4, c5⟩ := e14 s (by omega) s2
    refine ⟨⟨c5, ?_⟩, ⟨c1, c2⟩, c3, c4⟩
    rcases z with z | z
    · left; rw [z]; rfl
    · right; omega
  have hmono : ∀ j f, f + j = fc + 1 → tV f ≤ tV (fc + 1) ∧ bS f ≤ bS (fc + 1) := fun j f e => ⟨(hle j f e).2.1, (hle j f e).2.2⟩
  have hmono2 : ∀ j f, f + j ≤ fc + 1 → tV f ≤ tV (f + j) := by
    intro j
    induction j with
    | zero => intro f _; exact Nat.le_refl _
    | succ j ih =>
      intro f hj
      have a := ih f (by omega)
      obtain ⟨_, _, _, _, ⟨_, b, _⟩, _⟩ := hT (f + j) (by omega)
      show tV f ≤ tV (f + j + 1)
      omega
  refine ⟨fun s => ix (rd τ 149 s), fun s => ix (rd τ 150 s), fun p => ix (rd τ 160 p), fun s => scLl (fun s => ix (rd τ 149 s)) (fun s => ix (rd τ 150 s)) s s, fun f hf => ?_, fun f hf => ?_⟩
  · rw [e1] at hf
    have hTf := hT f (by omega)
    obtain ⟨hH, g1, g2, g3, ⟨g4, g5, g6, g7⟩, _, _, e13, e14, _⟩ := hTf
    have hb := hmono (fc - f) (f + 1) (by omega)
    refine ⟨⟨hH.2.2.2.2.2.2.2.2.2.2, ?_, g7, by omega⟩, fun s s1 s2 => ?_, rfl, fun p p1 p2 => ?_⟩
    · by_cases e : f = fc
      · rw [e]; exact u3
      · exact (hT (f + 1) (by omega)).1.2.2.2.2.2.2.2.2.2.2
    · obtain ⟨⟨a1, a2⟩, ⟨a3, a4⟩, a5, a6⟩ := hus f hf s s1 s2
      refine ⟨a5, a6, by rw [e4]; exact a3, by rw [e4]; exact a4, a1, a2, ?_⟩
      obtain ⟨s', rfl⟩ : ∃ s', s = s' + 1 := ⟨s - 1, by omega⟩
      show (if s' + 1 = 0 then [] else ix (rd τ 149 (s' + 1)) :: scLl (fun s => ix (rd τ 149 s)) (fun s => ix (rd τ 150 s)) s' (ix (rd τ 150 (s' + 1)))) = _
      rw [if_neg (by omega), scLl_eq (S0 := bS f) (S1 := bS (f + 1)) (fun s h1 h2 => (hus f hf s h1 h2).1) s' (ix (rd τ 150 (s' + 1))) (ix (rd τ 150 (s' + 1))) (by omega) (Nat.le_refl _) (a2.imp id (fun k => ⟨k, by omega⟩))]
    · rw [e3] at p1 p2
      have hbP := (hle (fc - f) (f + 1) (by omega)).1
      have hp2 : p < bP (fc + 1) := by omega
      obtain ⟨b1, _⟩ := hp p hp2
      obtain ⟨κ, s, kids, _, _, _, _, _, _, _, _, _, _, ⟨l, ⟨l1, l2⟩, l3, _⟩, _⟩ := hpr p hp2
      have el : D.sl p = l := chC.uni _ _ _ b1 l1
      have hin : ∀ v, v ∈ l → tV f ≤ v ∧ v < tV (f + 1) := fun v hv => by
        rw [← el] at hv
        have := PFf.inV (hF.2.2 f (by omega)) hv (by rw [e3]; exact p1) (by rw [e3]; exact p2)
        rw [e4] at this; exact this
      have hsc : rd τ 160 p = i32 (ix (rd τ 160 p) : Int) ∧ (ix (rd τ 160 p) = 0 ∨ (bS f < ix (rd τ 160 p) ∧ ix (rd τ 160 p) ≤ bS (f + 1))) := by
        cases l with
        | nil =>
          have l3 : rd τ 160 p = 0 := l3
          rw [l3]; exact ⟨rfl, .inl rfl⟩
        | cons v l' =>
          obtain ⟨s0, s1, s2, s3, s4, s5⟩ := l3
          have e0 : ix (rd τ 160 p) = s0 := by rw [s3, i32_ixn (by omega)]
          rw [e0]
          refine ⟨s3, .inr ?_⟩
          have zl1 := e13 p p1 p2
          have lo : bS f < s0 := by
            rcases zl1 with z | z
            · rw [s3] at z
              have := (i32_inj (by omega) (by omega) (by omega) (by omega)).mp (show i32 (s0 : Int) = i32 ((0 : Nat) : Int) from z)
              omega
            · rw [e0] at z; omega
          refine ⟨lo, Classical.byContradiction (fun hn => ?_)⟩
          -- of a later function: its variable would be a later one
          have hv := hin v List.mem_cons_self
          have fin : ∀ j g, g + j = fc + 1 → f + 1 ≤ g → bS g < s0 → s0 ≤ bS (fc + 1) → False := by
            intro j
            induction j with
            | zero => intro g e _ h1 h2; rw [show g = fc + 1 by omega] at h1; omega
            | succ j ih =>
              intro g e h0 h1 h2
              by_cases c : s0 ≤ bS (g + 1)
              · have := (hus g (by omega) s0 h1 c).2.1.1
                rw [s4, i32_ixn (by omega)] at this
                have := hmono2 (g - (f + 1)) (f + 1) (by omega)
                rw [show f + 1 + (g - (f + 1)) = g by omega] at this
                omega
              · exact ih (g + 1) (by omega) (by omega) (by omega) h2
          exact fin (fc - f) (f + 1) (by omega) (Nat.le_refl _) (by omega) (by omega)
      refine ⟨hsc.1, hsc.2, ?_⟩
      rw [el]
      exact chM.cl (S := S) (S0 := bS f) (S1 := bS (f + 1)) (fun _ => rfl) (fun _ => rfl) (fun s h1 h2 => (hus f hf s h1 h2).1) (by omega) l _ l3 (fun v hv => by have := (hin v hv).2; have := hmono (fc - f) (f + 1) (by omega); omega) hsc.2
  · obtain ⟨l, l1, l2, l3⟩ := (hT f (by rw [e1] at hf; omega)).1.1
    rw [l2, l3]
end RGVIEW
