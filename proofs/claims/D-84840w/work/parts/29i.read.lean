/-! READING: a variable is captured by all opn fns that it is outside of -/
section CAP3
variable {L : Nat} {xs : Nat → Int32} {σ σ' : tvS}
theorem fst_inj : ∀ (l : List (Nat × Nat)), (l.map Prod.fst).Nodup → ∀ a b, a ∈ l → b ∈ l → a.1 = b.1 → a = b := by
  intro l
  induction l with
  | nil => intro _ a b ha; cases ha
  | cons q r ih =>
    intro hd a b ha hb e
    rw [List.map_cons, List.nodup_cons] at hd
    cases ha with
    | head =>
      cases hb with
      | head => rfl
      | tail _ hb => exact absurd (by rw [e]; exact List.mem_map_of_mem hb) hd.1
    | tail _ ha =>
      cases hb with
      | head => exact absurd (by rw [← e]; exact List.mem_map_of_mem ha) hd.1
      | tail _ hb => exact ih hd.2 a b ha hb e
theorem sumC_le {cp : Nat → List (Nat × Nat)} : ∀ F, (∀ f, f < F → (cp f).length ≤ 40) → sumC cp F ≤ 40 * F := by
  intro F
  induction F with
  | zero => intro _; exact Nat.le_refl _
  | succ F ih =>
    intro h
    have h1 := ih (fun f hf => h f (by omega))
    have h2 := h F (by omega)
    show sumC cp F + (cp F).length ≤ _
    omega
theorem cap_add {K1 K2 F C f v : Nat} {cp : Nat → List (Nat × Nat)} (hR : roomC K1 K2 σ) (hC : CAPS F C cp σ) (hlt : C < ln σ 40) (hf : f < F) (hF : F ≤ 4101) (hv : v < 4101) (hn : v ∉ (cp f).map Prod.snd) (hl : (cp f).length < 40) (d : Nat) (v1 : Value) :
    ∃ σ', rn L xs (d + 1) 73 41 [.ref 15, v1, .int (i32 v), .int (i32 f)] [] σ = rn L xs (d + 1) 73 129 [.ref 15, v1, .int (i32 v), .int (i32 f)] [] σ' ∧ roomC K1 K2 σ' ∧ CAPS F (C + 1) (upC cp f (C, v)) σ' ∧ frCap σ σ' := by
  have hR' := hR
  obtain ⟨r1, r2, r4, r5⟩ := hR
  unfold pw2 at r2
  obtain ⟨a1, a2, a3, a4, a5⟩ := hC
  obtain ⟨b1, b2, b3, b4, b5, b6, b7⟩ := a4 f hf
  -- the chain's end is written, then the numbers
  have fin : ∀ σ1 : tvS, roomC K1 K2 σ1 → frCap σ σ1 → rd σ1 15 29 = i32 C → rd σ1 39 f = i32 (cp f).length → ln σ1 40 = ln σ 40 → (∀ g, g ≠ f → rd σ1 37 g = rd σ 37 g) → (∀ g, rd σ1 38 g = rd σ 38 g ∧ (g ≠ f → rd σ1 39 g = rd σ 39 g)) →
      capL σ1 (cp f ++ [(C, v)]) (rd σ1 37 f) → (∀ g, g < F → g ≠ f → ∀ q, q ∈ cp g → rd σ1 40 q.1 = rd σ 40 q.1 ∧ rd σ1 41 q.1 = rd σ 41 q.1) →
      ∃ σ', rn L xs (d + 1) 73 99 [.ref 15, v1, .int (i32 v), .int (i32 f)] [] σ1 = rn L xs (d + 1) 73 129 [.ref 15, v1, .int (i32 v), .int (i32 f)] [] σ' ∧ roomC K1 K2 σ' ∧ CAPS F (C + 1) (upC cp f (C, v)) σ' ∧ frCap σ σ' := by
    intro σ1 g1 g2 g3 g4 g5 g6 g7 g8 g9
    rw [e73_99, c_in (by omega) (by omega) (by omega), c_in (by omega) (by omega) (by omega), c_in (by omega) (by omega) (by omega), i32_ixn (by omega), g3, g4, i32_n1, i32_n1]
    refine ⟨_, rfl, g1, ?_, g2.trans (((frCap_wr (Or.inl ⟨by decide, by decide⟩)).trans (frCap_wr (Or.inl ⟨by decide, by decide⟩))).trans (frCap_wr (Or.inr ⟨rfl, rfl⟩)))⟩
    have e40 : ∀ j i, j ≠ 38 → j ≠ 39 → ¬ (j = 15 ∧ i = 29) → rd (wr (wr (wr σ1 38 f (i32 C)) 39 f (i32 ((cp f).length + 1 : Nat))) 15 29 (i32 (C + 1 : Nat))) j i = rd σ1 j i := fun j i h1 h2 h3 => by
      rw [rd_wr, if_neg h3, wr_nek h2, wr_nek h1]
    refine ⟨wr_self _ _ _ _, by show C + 1 ≤ ln σ1 40; omega, by rw [sumC_up F hf]; omega, fun g hg => ?_, fun g g' q q' hg hg' hq hq' e => ?_⟩
    · by_cases e : g = f
      · subst e
        have hu : upC cp g (C, v) g = cp g ++ [(C, v)] := if_pos rfl
        rw [hu]
        refine ⟨?_, ?_, ?_, ?_, ?_, ?_, ?_⟩
        · rw [e40 37 g (by decide) (by decide) (by omega)]
          exact g8.congr _ _ (fun q _ => ⟨e40 40 q.1 (by decide) (by decide) (by omega), e40 41 q.1 (by decide) (by decide) (by omega)⟩)
        · rw [wr_nek (by decide), wr_nek (by decide), wr_self, List.getLast?_append]
          rfl
        · rw [wr_nek (by decide), wr_self, List.length_append]
          rfl
        · rw [List.length_append]; show (cp g).length + 1 ≤ 40; omega
        · intro q hq
          rcases List.mem_append.mp hq with h | h
          · have := b5 q h; omega
          · rw [List.mem_singleton.mp h]; show C < C + 1; omega
        · rw [List.map_append, List.nodup_append]
          refine ⟨b6, by simp, fun a ha b hb => ?_⟩
          have hb : b = C := by simpa using hb
          obtain ⟨q, h1, h2⟩ := List.mem_map.mp ha
          have := b5 q h1
          omega
        · rw [List.map_append, List.nodup_append]
          refine ⟨b7, by simp, fun a ha b hb => ?_⟩
          have hb : b = v := by simpa using hb
          intro e
          exact hn (by rw [← hb, ← e]; exact ha)
      · have hu : upC cp f (C, v) g = cp g := if_neg e
        rw [hu]
        obtain ⟨d1, d2, d3, d4, d5, d6, d7⟩ := a4 g hg
        refine ⟨?_, ?_, ?_, d4, fun q hq => by have := d5 q hq; omega, d6, d7⟩
        · rw [e40 37 g (by decide) (by decide) (by omega), g6 g e]
          exact d1.congr _ _ (fun q hq => by
            rw [e40 40 q.1 (by decide) (by decide) (by omega), e40 41 q.1 (by decide) (by decide) (by omega)]
            exact g9 g hg e q hq)
        · rw [wr_nek (by decide), wr_nek (by decide), wr_nei e, (g7 g).1]; exact d2
        · rw [wr_nek (by decide), wr_nei e, wr_nek (by decide), (g7 g).2 e]; exact d3
    · have hm : ∀ g q, q ∈ upC cp f (C, v) g → (q ∈ cp g) ∨ (g = f ∧ q.1 = C) := by
        intro g q hq
        unfold upC at hq
        by_cases e : g = f
        · rw [if_pos e] at hq
          rcases List.mem_append.mp hq with h | h
          · rw [e]; exact Or.inl h
          · rw [List.mem_singleton.mp h]; exact Or.inr ⟨e, rfl⟩
        · rw [if_neg e] at hq
          exact Or.inl hq
      rcases hm g q hq with h1 | ⟨h1, h2⟩
      · rcases hm g' q' hq' with h3 | ⟨h3, h4⟩
        · exact a5 g g' q q' hg hg' h1 h3 e
        · have := (a4 g hg).2.2.2.2.1 q h1
          omega
      · rcases hm g' q' hq' with h3 | ⟨h3, h4⟩
        · have := (a4 g' hg').2.2.2.2.1 q' h3
          omega
        · rw [h1, h3]
  have s40 : ∀ j i, j ≠ 40 → j ≠ 41 → rd (wr (wr σ 40 C (i32 v)) 41 C (i32 (-1))) j i = rd σ j i := fun j i h1 h2 => by rw [wr_nek h2, wr_nek h1]
  have fr0 : frCap σ (wr (wr σ 40 C (i32 v)) 41 C (i32 (-1))) := (frCap_wr (Or.inl ⟨by decide, by decide⟩)).trans (frCap_wr (Or.inl ⟨by decide, by decide⟩))
  rw [e73_41, a1, c_in (by omega) (by omega) (by omega), c_in (by omega) (by omega) (by omega), c_in (by omega) (by omega) (by omega), i32_ixn (by omega), i32_ixn (by omega), i32_raw]
  cases hcp : cp f with
  | nil =>
    rw [hcp] at b1 b2 b3
    have b1 : rd σ 37 f = i32 (-1) := b1
    rw [b1, c2_ne (by omega) (by omega) (by omega) (by omega), c_f (by omega), c_in (by omega) (by omega) (by omega)]
    refine fin _ hR' (fr0.trans (frCap_wr (Or.inl ⟨by decide, by decide⟩))) ?_ ?_ rfl (fun g hg => ?_) (fun g => ⟨?_, fun _ => ?_⟩) ?_ (fun g hg hgf q hq => ?_)
    · rw [wr_nek (by decide), s40 15 29 (by decide) (by decide)]; exact a1
    · rw [wr_nek (by decide), s40 39 f (by decide) (by decide), hcp]; exact b3
    · rw [wr_nei hg, s40 37 g (by decide) (by decide)]
    · rw [wr_nek (by decide), s40 38 g (by decide) (by decide)]
    · rw [wr_nek (by decide), s40 39 g (by decide) (by decide)]
    · rw [hcp, wr_self]
      refine ⟨rfl, ?_, ?_⟩
      · rw [wr_nek (by decide), wr_nek (by decide), wr_self]
      · rw [wr_nek (by decide), wr_self]; rfl
    · have := (a4 g hg).2.2.2.2.1 q hq
      rw [wr_nek (by decide), wr_nek (by decide), wr_nei (by omega), wr_nek (by decide), wr_nei (by omega), wr_nek (by decide)]
      exact ⟨rfl, rfl⟩
  | cons q0 r0 =>
    obtain ⟨c0, u0⟩ := q0
    have hne : cp f ≠ [] := by rw [hcp]; intro e; cases e
    have b1' := b1
    rw [hcp] at b1'
    obtain ⟨p1, p2, p3⟩ := b1'
    have hc0 := b5 (c0, u0) (by rw [hcp]; exact List.mem_cons_self)
    have hc0 : c0 < C := hc0
    obtain ⟨ql, hql⟩ : ∃ ql, (cp f).getLast? = some ql := by
      cases h : (cp f).getLast? with
      | none => rw [List.getLast?_eq_none_iff] at h; exact absurd h hne
      | some ql => exact ⟨ql, rfl⟩
    have hlm := List.mem_of_getLast? hql
    have hlc := b5 ql hlm
    rw [hql] at b2
    have b2 : rd σ 38 f = i32 ql.1 := b2
    rw [p1, c2_ne (by omega) (by omega) (by omega) (by omega), c_t (by omega), e73_84, c_in (by omega) (by omega) (by omega), i32_ixn (by omega), s40 38 f (by decide) (by decide), b2, c_in (by omega) (by show (ql.1 : Int) < ln σ 41; omega) (by show ln σ 41 ≤ _; omega), i32_ixn (by omega), s40 15 29 (by decide) (by decide), a1]
    refine fin _ hR' (fr0.trans (frCap_wr (Or.inl ⟨by decide, by decide⟩))) ?_ ?_ rfl (fun g hg => ?_) (fun g => ⟨?_, fun _ => ?_⟩) ?_ (fun g hg hgf q hq => ?_)
    · rw [wr_nek (by decide), s40 15 29 (by decide) (by decide)]; exact a1
    · rw [wr_nek (by decide), s40 39 f (by decide) (by decide)]; exact b3
    · rw [wr_nek (by decide), s40 37 g (by decide) (by decide)]
    · rw [wr_nek (by decide), s40 38 g (by decide) (by decide)]
    · rw [wr_nek (by decide), s40 39 g (by decide) (by decide)]
    · rw [wr_nek (by decide), s40 37 f (by decide) (by decide)]
      refine capL.snoc ?_ ?_ (cp f) _ hne b1 b6 (fun q hq => ?_) (fun q hq hq2 => ?_) (fun q hq => ?_)
      · rw [wr_nek (by decide), wr_nek (by decide), wr_self]
      · rw [wr_nei (by omega), wr_self]
      · have := b5 q hq
        rw [wr_nek (by decide), wr_nek (by decide), wr_nei (by omega)]
      · have hh := b5 q hq
        have : q.1 ≠ ql.1 := by
          intro e
          apply hq2
          rw [hql]
          congr 1
          exact fst_inj (cp f) b6 ql q hlm hq e.symm
        rw [wr_nei this, wr_nei (by omega), wr_nek (by decide)]
      · rw [hql] at hq
        cases hq
        rw [wr_self]
    · have h1 := (a4 g hg).2.2.2.2.1 q hq
      have h2 : q.1 ≠ ql.1 := fun e => hgf (a5 g f q ql hg hf hq hlm e)
      rw [wr_nek (by decide), wr_nek (by decide), wr_nei (by omega), wr_nei h2, wr_nei (by omega), wr_nek (by decide)]
      exact ⟨rfl, rfl⟩
theorem OPN.congr : ∀ (fs : List (Nat × Nat × List Nat)) (x : Int32), OPN σ fs x → (∀ e, e ∈ fs → rd σ' 34 e.1 = rd σ 34 e.1) → OPN σ' fs x := by
  intro fs
  induction fs with
  | nil => intro x h _; exact h
  | cons e r ih =>
    intro x h hc
    obtain ⟨h1, h2, h3⟩ := h
    refine ⟨h1, h2, ?_⟩
    rw [hc e List.mem_cons_self]
    exact ih _ h3 (fun u hu => hc u (List.mem_cons_of_mem _ hu))
theorem sufF_in : ∀ (fs : List (Nat × Nat × List Nat)) (l : List Nat), sufF l fs → ∀ e, e ∈ fs → ∀ v, v ∈ e.2.2 → v ∈ l := by
  intro fs
  induction fs with
  | nil => intro l _ e he; cases he
  | cons a r ih =>
    intro l h e he v hv
    obtain ⟨⟨u, hu⟩, h2⟩ := h
    rw [hu]
    cases he with
    | head => exact List.mem_append.mpr (Or.inr hv)
    | tail _ he => exact List.mem_append.mpr (Or.inr (ih a.2.2 h2 e he v hv))
theorem ownF_ne : ∀ (fs : List (Nat × Nat × List Nat)) (v f : Nat), f < 4101 → (∀ e, e ∈ fs → e.1 < 4101 ∧ e.1 ≠ f) → ownF fs v ≠ i32 f := by
  intro fs
  induction fs with
  | nil =>
    intro v f hf _ h
    have := (i32_inj (by omega) (by omega) (by omega) (by omega)).mp (show i32 (-1) = i32 f from h)
    omega
  | cons e r ih =>
    intro v f hf he h
    have h : (if v ∈ e.2.2 then ownF r v else i32 e.1) = i32 f := h
    by_cases q : v ∈ e.2.2
    · rw [if_pos q] at h
      exact ih v f hf (fun u hu => he u (List.mem_cons_of_mem _ hu)) h
    · rw [if_neg q] at h
      obtain ⟨h1, h2⟩ := he e List.mem_cons_self
      have := (i32_inj (by omega) (by omega) (by omega) (by omega)).mp h
      omega
/-- what a variable at hand adds to captures -/
def capN (fs : List (Nat × Nat × List Nat)) (v : Nat) (cp cp' : Nat → List (Nat × Nat)) : Prop := ∀ g, ((∃ e, e ∈ fs ∧ e.1 = g ∧ v ∈ e.2.2) → (cp' g).map Prod.snd = if v ∈ (cp g).map Prod.snd then (cp g).map Prod.snd else (cp g).map Prod.snd ++ [v]) ∧ (¬ (∃ e, e ∈ fs ∧ e.1 = g ∧ v ∈ e.2.2) → cp' g = cp g)
theorem capture_loop {K1 K2 F v : Nat} (hF : F ≤ 1001) (hv : v < 4101) (d : Nat) : ∀ (fs : List (Nat × Nat × List Nat)) (sc : List Nat) (x : Int32) (C : Nat) (cp : Nat → List (Nat × Nat)) (σ : tvS) (v1 : Value), OPN σ fs x → sufF sc fs → (fs.map Prod.fst).Nodup → (∀ e, e ∈ fs → e.1 < F ∧ e.2.2.length ≤ 40 ∧ ∀ u, u ∈ (cp e.1).map Prod.snd → u ∈ e.2.2) → rd σ 31 v = ownF fs v → (∀ f, f < F → ∀ q, q ∈ cp f → q.2 < 4101) → CAPS F C cp σ → roomC K1 K2 σ →
    ∃ σ' C' cp', rn L xs (d + 2) 73 2 [.ref 15, v1, .int (i32 v), .int x] [] σ = some (.inl none, σ') ∧ CAPS F C' cp' σ' ∧ roomC K1 K2 σ' ∧ frCap σ σ' ∧ capN fs v cp cp' ∧ (∀ f, f < F → ∀ q, q ∈ cp' f → q.2 < 4101) := by
  intro fs
  induction fs with
  | nil =>
    intro sc x C cp σ v1 h _ _ _ ho hq hC hR
    have h : x = i32 (-1) := h
    refine ⟨σ, C, cp, ?_, hC, hR, frCap.refl, fun g => ⟨fun ⟨e, he, _⟩ => (by cases he), fun _ => rfl⟩, hq⟩
    rw [e73_2 (d + 1), c_in (by omega) (by omega) (by omega), i32_ixn (by omega), ho, h]
    show cond (pv_c2 .eq (i32 (-1)) (i32 (-1))) _ _ = _
    rw [c2_eq (by omega) (by omega) (by omega) (by omega), c_t (by omega), e73_139 (d + 1)]
  | cons e r ih =>
    intro sc x C cp σ v1 h hs hd he ho hq hC hR
    obtain ⟨h1, h2, h3⟩ := h
    obtain ⟨hs1, hs2⟩ := hs
    rw [List.map_cons, List.nodup_cons] at hd
    obtain ⟨e1, e2, e3⟩ := he e List.mem_cons_self
    have ho : rd σ 31 v = if v ∈ e.2.2 then ownF r v else i32 e.1 := ho
    rw [e73_2 (d + 1), c_in (by omega) (by omega) (by omega), i32_ixn (by omega), ho, h1]
    by_cases q : v ∈ e.2.2
    · rw [if_pos q]
      have hne : i32 (e.1 : Int) ≠ ownF r v := fun p => ownF_ne r v e.1 h2 (fun u hu => ⟨by have := (he u (List.mem_cons_of_mem _ hu)).1; omega, fun p => hd.1 (by rw [← p]; exact List.mem_map_of_mem hu)⟩) p.symm
      rw [show pv_c2 .eq (i32 (e.1 : Int)) (ownF r v) = false from decide_eq_false hne, cond_false]
      have hCC := hC
      have hRR := hR
      obtain ⟨r1, r2, r4, r5⟩ := hR
      unfold pw2 at r2
      obtain ⟨a1, a2, a3, a4, a5⟩ := hC
      obtain ⟨b1, b2, b3, b4, b5, b6, b7⟩ := a4 e.1 e1
      obtain ⟨y, y1, y2⟩ := capOf_loop (L := L) (xs := xs) (N0 := ln σ 40) rfl r1 (by omega) d v hv (.int (i32 e.1)) (cp e.1) (rd σ 37 e.1) 0 (by omega) b1 (fun q hq2 => ⟨by have := b5 q hq2; omega, hq e.1 e1 q hq2⟩)
      have y0 : rn L xs (d + 1) 74 0 [.ref 15, .int (i32 e.1), .int (i32 v), jv, jv] [] σ = some (.inl (some (.int y)), σ) := by
        rw [e74_0, c_in (by omega) (by omega) (by omega), i32_ixn (by omega)]
        exact y1
      rw [bI_ok y0, i32_raw, y2]
      -- go on with the fns around
      have go : ∀ (σ1 : tvS) (C1 : Nat) (cp1 : Nat → List (Nat × Nat)) (w1 : Value), CAPS F C1 cp1 σ1 → roomC K1 K2 σ1 → frCap σ σ1 → (∀ g, g ≠ e.1 → cp1 g = cp g) → (cp1 e.1).map Prod.snd = (if v ∈ (cp e.1).map Prod.snd then (cp e.1).map Prod.snd else (cp e.1).map Prod.snd ++ [v]) → (∀ q, q ∈ cp1 e.1 → q.2 < 4101) →
          ∃ σ' C' cp', rn L xs (d + 2) 73 129 [.ref 15, w1, .int (i32 v), .int (i32 e.1)] [] σ1 = some (.inl none, σ') ∧ CAPS F C' cp' σ' ∧ roomC K1 K2 σ' ∧ frCap σ σ' ∧ capN (e :: r) v cp cp' ∧ (∀ f, f < F → ∀ q, q ∈ cp' f → q.2 < 4101) := by
        intro σ1 C1 cp1 w1 g1 g2 g3 g4 g5 g6
        rw [e73_129 (d + 1), c_in (by omega) (by omega) (by omega), i32_ixn (by omega)]
        have hne2 : ∀ u, u ∈ r → u.1 ≠ e.1 := fun u hu p => hd.1 (by rw [← p]; exact List.mem_map_of_mem hu)
        obtain ⟨σ2, C2, cp2, k1, k2, k3, k4, k5, k6⟩ := ih e.2.2 (rd σ1 34 e.1) C1 cp1 σ1 w1 (by rw [g3.1 34 e.1 (by omega)]; exact h3.congr _ _ (fun u _ => g3.1 34 u.1 (by omega))) hs2 hd.2 (fun u hu => by
          obtain ⟨c1, c2, c3⟩ := he u (List.mem_cons_of_mem _ hu)
          rw [g4 u.1 (hne2 u hu)]
          exact ⟨c1, c2, c3⟩) (by rw [g3.1 31 v (by omega), ho, if_pos q]) (fun f hf q hq2 => by
            by_cases p : f = e.1
            · rw [p] at hq2; exact g6 q hq2
            · rw [g4 f p] at hq2; exact hq f hf q hq2) g1 g2
        refine ⟨σ2, C2, cp2, k1, k2, k3, g3.trans k4, fun g => ⟨fun hg => ?_, fun hg => ?_⟩, k6⟩
        · by_cases p : g = e.1
          · subst p
            rw [(k5 e.1).2 (fun ⟨u, hu, hu2, _⟩ => hne2 u hu hu2)]
            exact g5
          · obtain ⟨u, hu, hu2, hu3⟩ := hg
            have hur : u ∈ r := by
              cases hu with
              | head => exact absurd hu2.symm p
              | tail _ hu => exact hu
            have := (k5 g).1 ⟨u, hur, hu2, hu3⟩
            rw [g4 g p] at this
            exact this
        · have p : g ≠ e.1 := fun p => hg ⟨e, List.mem_cons_self, p.symm, q⟩
          rw [(k5 g).2 (fun ⟨u, hu, hu2⟩ => hg ⟨u, List.mem_cons_of_mem _ hu, hu2⟩), g4 g p]
      by_cases q2 : v ∈ (cp e.1).map Prod.snd
      · rw [decide_eq_false (fun p => p q2), cond_false]
        exact go σ C cp _ hCC hRR frCap.refl (fun _ _ => rfl) (by rw [if_pos q2]) (fun q hq2 => hq e.1 e1 q hq2)
      · rw [decide_eq_true q2, cond_true]
        have hlen : (cp e.1).length < 40 := by
          have hnd : (((cp e.1).map Prod.snd) ++ [v]).Nodup := by
            rw [List.nodup_append]
            refine ⟨b7, by simp, fun a ha b hb => ?_⟩
            have hb : b = v := by simpa using hb
            intro p
            exact q2 (by rw [← hb, ← p]; exact ha)
          have := nodup_len _ e.2.2 hnd (fun u hu => by
            rcases List.mem_append.mp hu with hu | hu
            · exact e3 u hu
            · rw [List.mem_singleton.mp hu]; exact q)
          rw [List.length_append, List.length_map] at this
          have : (cp e.1).length + 1 ≤ e.2.2.length := this
          omega
        have hsum : sumC cp F < 65536 := by
          have := sumC_le (cp := cp) F (fun f hf => (a4 f hf).2.2.2.1)
          omega
        obtain ⟨σ1, w1, g1, g2, g3, g4, g5⟩ := cap_room (L := L) (xs := xs) hRR hCC hsum d (dj v1) (i32 v) (i32 e.1)
        rw [g1]
        obtain ⟨σ2, f1, f2, f3, f4⟩ := cap_add (L := L) (xs := xs) g2 g3 g4 e1 (by omega) hv q2 hlen (d + 1) w1
        rw [f1]
        refine go σ2 (C + 1) (upC cp e.1 (C, v)) w1 f3 f2 (g5.trans f4) (fun g hg => if_neg hg) ?_ (fun q hq2 => ?_)
        · rw [if_neg q2]
          have : upC cp e.1 (C, v) e.1 = cp e.1 ++ [(C, v)] := if_pos rfl
          rw [this, List.map_append]
          rfl
        · have : upC cp e.1 (C, v) e.1 = cp e.1 ++ [(C, v)] := if_pos rfl
          rw [this] at hq2
          rcases List.mem_append.mp hq2 with hq2 | hq2
          · exact hq e.1 e1 q hq2
          · rw [List.mem_singleton.mp hq2]; exact hv
    · rw [if_neg q]
      rw [c2_eq (by omega) (by omega) (by omega) (by omega), c_t (by omega), e73_139 (d + 1)]
      refine ⟨σ, C, cp, rfl, hC, hR, frCap.refl, fun g => ⟨fun ⟨u, hu, hu2, hu3⟩ => ?_, fun _ => rfl⟩, hq⟩
      cases hu with
      | head => exact absurd hu3 q
      | tail _ hu => exact absurd (sufF_in r e.2.2 hs2 u hu v hu3) q
end CAP3
