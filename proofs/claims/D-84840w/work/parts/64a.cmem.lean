/-! RUNS, COMPONENT: what it has in memory -/
/-- where the regions of calls are told -/
def hdF (rg : rgD) (ff : Nat → Nat) : Nat → Nat
  | 0 => 0
  | j + 1 => hdF rg ff j + rg.nK (ff j)
/-- what it reads of the program -/
def RSc (D : pgD) (rg : rgD) (cd : cdD) (cs : Nat) (σ : tvS) : Prop :=
  (cs ≤ ln σ 95 ∧ ln σ 95 ≤ 1000000) ∧ (∀ g, g ≤ D.fc → FCO D rg cd cs σ g ∧ rd σ 80 g = i32 (rg.nK g : Int) ∧ rd σ 44 g = i32 (D.bk g : Int)) ∧ (∀ h, h < D.bF (D.fc + 1) → HCO D rg cd cs σ h) ∧ CSz D rg cd σ ∧
  (∀ j, j < D.bF (D.fc + 1) → ∃ kf : Nat, rd σ 83 j = i32 (kf : Int) ∧ kf + (rg.kp j).length ≤ ln σ 85 ∧ kf + (rg.kp j).length < 65536 ∧ ln σ 85 ≤ 2147483648 ∧ ∀ i, i < (rg.kp j).length → rd σ 85 (kf + i) = i32 ((rg.kp j).getD i 0 : Nat)) ∧
  rd σ 15 38 = i32 (D.fc : Int) ∧ ∃ fst : Nat, rd σ 79 D.fc = i32 (fst : Int) ∧ fst + rg.nK D.fc ≤ ln σ 82 ∧ ln σ 82 ≤ 2147483648 ∧ fst < 1000000 ∧ ∀ k, k < rg.nK D.fc → rd σ 82 (fst + k) = i32 (rg.ow D.fc k)
/-- what a run of the component writes -/
def RCr : List Nat := [100, 101, 102, 103, 104, 105, 106, 107, 108, 109, 110, 111, 112, 113, 114, 115, 116, 117, 118, 119, 120, 121, 122]
/-- calls -/
def CMf (rg : rgD) (X : dyD) (bk : Nat → Nat) (i : Nat) (σ : tvS) : Prop :=
  (rd σ 117 9 = i32 (X.bs i : Int) ∧ rd σ 117 10 = i32 (X.ff i : Int) ∧ rd σ 117 11 = i32 (hdF rg X.ff i : Int) ∧ rd σ 117 17 = i32 (i : Int) ∧ i ≤ 300) ∧
  (∀ j, j < i → rd σ 119 j = i32 (bk j : Int) ∧ rd σ 120 j = i32 (X.bs j : Int) ∧ rd σ 121 j = i32 (X.ff j : Int) ∧ rd σ 122 j = i32 (hdF rg X.ff j : Int)) ∧
  ∀ j k, j ≤ i → 1 ≤ k → k ≤ rg.nK (X.ff j) → X.aR j k < 2000 → rd σ 118 (hdF rg X.ff j + k - 1) = i32 (X.aR j k : Int)
/-- counts, regions' names -/
def CMc (fn : Nat → Nat × Nat) (B no st ev nr : Nat) (σ : tvS) : Prop := (∀ r, r < nr → rd σ 108 r = i32 ((fn r).1 : Int) ∧ rd σ 109 r = i32 ((fn r).2 : Int)) ∧ rd σ 103 20 = i32 ((B - 1 : Nat) : Int) ∧ 1 ≤ B ∧ rd σ 103 21 = i32 (no : Int) ∧ rd σ 117 5 = 1 ∧ rd σ 117 6 = i32 (st : Int) ∧ rd σ 117 7 = i32 (ev : Int)
section CMEM
variable {L : Nat} {xs : Nat → Int32} {σ σ' σ0 : tvS} {D : pgD} {rg : rgD} {cd : cdD} {X X' : dyD} {n nr wd pgs cs a i st ev B no : Nat} {pl : Nat → Nat} {fl : List Nat} {s : cSt} {pg : Nat → List Nat} {fn : Nat → Nat × Nat} {bk : Nat → Nat}
theorem RSc.fr {S : List Nat} (h : RSc D rg cd cs σ) (w : frW S σ σ') (hS : (S.all fun k => inL RCr k) = true) : RSc D rg cd cs σ' := by
  have w' : frW RCr σ σ' := w.sub hS
  obtain ⟨h1, h2, h3, h4, h5, h6, fst, h7, h8, h9, h10, h11⟩ := h
  refine ⟨by rw [w'.ln]; exact h1, fun g hg => ?_, fun q hq => (h3 q hq).go (fun i _ => w'.1 95 rfl i) (w'.1 97 rfl q) (w'.1 98 rfl q) (Nat.le_refl _), fun j hj => by rw [w'.1 39 rfl, w'.1 84 rfl]; exact h4 j hj, fun j hj => ?_, by rw [w'.1 15 rfl]; exact h6, fst, by rw [w'.1 79 rfl]; exact h7, by rw [w'.ln]; exact h8, by rw [w'.ln]; exact h9, h10, fun k hk => by rw [w'.1 82 rfl]; exact h11 k hk⟩
  · obtain ⟨a1, a2, a3⟩ := h2 g hg
    exact ⟨a1.go (fun i _ => w'.1 95 rfl i) (w'.1 96 rfl g) (Nat.le_refl _), by rw [w'.1 80 rfl]; exact a2, by rw [w'.1 44 rfl]; exact a3⟩
  · obtain ⟨kf, k1, k2, k3, k4, k5⟩ := h5 j hj
    exact ⟨kf, by rw [w'.1 83 rfl]; exact k1, by rw [w'.ln]; exact k2, k3, by rw [w'.ln]; exact k4, fun i hi => by rw [w'.1 85 rfl]; exact k5 i hi⟩
theorem CMf.fr (h : CMf rg X bk i σ) (h117 : ∀ q, q = 9 ∨ q = 10 ∨ q = 11 ∨ q = 17 → rd σ' 117 q = rd σ 117 q) (hr : ∀ j, j = 118 ∨ j = 119 ∨ j = 120 ∨ j = 121 ∨ j = 122 → ∀ q, rd σ' j q = rd σ j q) : CMf rg X bk i σ' := by
  obtain ⟨⟨a1, a2, a3, a4, a5⟩, b, c⟩ := h
  refine ⟨⟨by rw [h117 9 (by omega)]; exact a1, by rw [h117 10 (by omega)]; exact a2, by rw [h117 11 (by omega)]; exact a3, by rw [h117 17 (by omega)]; exact a4, a5⟩, fun j hj => ?_, fun j k hj h1 h2 h3 => by rw [hr 118 (by omega)]; exact c j k hj h1 h2 h3⟩
  rw [hr 119 (by omega), hr 120 (by omega), hr 121 (by omega), hr 122 (by omega)]; exact b j hj
theorem CMf.same (h : CMf rg X bk i σ) (e1 : X'.fr = X.fr) (e2 : X'.aR = X.aR) : CMf rg X' bk i σ := by
  have ef : X'.ff = X.ff := by funext j; unfold dyD.ff; rw [e1]
  have eb : X'.bs = X.bs := by funext j; unfold dyD.bs; rw [e1]
  unfold CMf at h ⊢
  rw [ef, eb, e2]; exact h
theorem CMc.fr (h : CMc fn B no st ev nr σ) (h103 : ∀ q, q = 20 ∨ q = 21 → rd σ' 103 q = rd σ 103 q) (h117 : ∀ q, q = 5 ∨ q = 6 ∨ q = 7 → rd σ' 117 q = rd σ 117 q) (hr : ∀ j, j = 108 ∨ j = 109 → ∀ q, rd σ' j q = rd σ j q) : CMc fn B no st ev nr σ' := by
  obtain ⟨a1, a2, a3, a4, a5, a6, a7⟩ := h
  exact ⟨fun r hr' => by rw [hr 108 (by omega), hr 109 (by omega)]; exact a1 r hr', by rw [h103 20 (by omega)]; exact a2, a3, by rw [h103 21 (by omega)]; exact a4, by rw [h117 5 (by omega)]; exact a5, by rw [h117 6 (by omega)]; exact a6, by rw [h117 7 (by omega)]; exact a7⟩
theorem CPs.fr {S : List Nat} (h : CPs D X n nr wd pgs s pl pg fl σ) (w : frW S σ σ') (hS : (S.all fun k => inL [108, 109, 117, 118, 119, 120, 121, 122] k) = true) : CPs D X n nr wd pgs s pl pg fl σ' := by
  have w' : frW [108, 109, 117, 118, 119, 120, 121, 122] σ σ' := w.sub hS
  obtain ⟨h1, h2, h3, h4⟩ := h
  refine ⟨h1.fr (fun q _ => w'.1 103 rfl q) (fun j hj q => by rcases hj with e | e | e | e | e | e | e <;> rw [e] <;> exact w'.1 _ rfl q), h2.fr (fun j hj q => by rcases hj with e | e | e <;> rw [e] <;> exact w'.1 _ rfl q), h3.fr (fun q => ⟨w'.1 104 rfl q, w'.1 105 rfl q⟩), h4⟩
/-- the next word -/
theorem next_c (hR : RSc D rg cd cs σ) (ha : rd σ 117 8 = i32 (a : Int)) (hl : a < cs) (d : Nat) : rn L xs (d + 2) 261 0 [.ref 117] [] σ = some (.inl (some (.int (rd σ 95 a))), wr σ 117 8 (i32 ((a + 1 : Nat) : Int))) := by
  have h1 := hR.1
  have e1 : i32 ((a + 1 : Nat) : Int) - 1 = i32 (a : Int) := by rw [show (1 : Int32) = i32 1 from rfl, i32_sub]; congr 1; omega
  have p : rn L xs (d + 1) 212 0 [.ref 94, .int (i32 (a : Int))] [] (wr σ 117 8 (i32 ((a + 1 : Nat) : Int))) = some (.inl (some (.int (rd σ 95 a))), wr σ 117 8 (i32 ((a + 1 : Nat) : Int))) := by
    rw [e212_0, c_in (by omega) (by show (a : Int) < (ln σ 95 : Int); omega) (by show ln σ 95 ≤ _; omega), i32_ixn (by omega), wr_nek (by decide)]
  rw [e261_0 (d + 1), ha, i32_up, e1, bI_ok p]
/-- free pages, from the first on -/
def rgL : Nat → Nat → List Nat
  | _, 0 => []
  | k, j + 1 => k :: rgL (k + 1) j
theorem rgL_mem {p : Nat} : ∀ (j k : Nat), p ∈ rgL k j ↔ k ≤ p ∧ p < k + j := by
  intro j
  induction j with
  | zero => intro k; exact ⟨fun h => (List.not_mem_nil h).elim, fun h => absurd h.2 (by omega)⟩
  | succ j ih =>
    intro k
    show p ∈ k :: rgL (k + 1) j ↔ _
    rw [List.mem_cons, ih]
    omega
theorem rgL_nodup : ∀ (j k : Nat), (rgL k j).Nodup := by
  intro j
  induction j with
  | zero => intro k; exact List.nodup_nil
  | succ j ih =>
    intro k
    exact List.nodup_cons.mpr ⟨fun h => by have := (rgL_mem _ _).mp h; omega, ih (k + 1)⟩
theorem rgL_len : ∀ (j k : Nat), (rgL k j).length = j := by
  intro j
  induction j with
  | zero => intro k; rfl
  | succ j ih => intro k; show (rgL (k + 1) j).length + 1 = _; rw [ih]
theorem rgL_lk {nx : Nat → Int32} : ∀ (j k : Nat), (∀ q, k ≤ q → q < k + j → nx q = (if q + 1 < k + j then i32 ((q + 1 : Nat) : Int) else i32 (-1))) → lkF nx (rgL k j) (hdP (rgL k j)) := by
  intro j
  induction j with
  | zero => intro k _; rfl
  | succ j ih =>
    intro k h
    refine ⟨rfl, ?_⟩
    have h1 := h k (Nat.le_refl _) (by omega)
    rw [h1]
    have h2 := ih (k + 1) (fun q q1 q2 => by rw [h q (by omega) (by omega), show k + 1 + j = k + (j + 1) by omega])
    cases j with
    | zero => rw [if_neg (by omega)]; exact h2
    | succ j => rw [if_pos (by omega)]; exact h2
theorem rel_loop (hpg : pgs ≤ 400) (d : Nat) : ∀ (j k : Nat) (σ : tvS), k + j = pgs → rd σ 103 4 = i32 (pgs : Int) → (∀ q, q < k → rd σ 106 q = (if q + 1 < pgs then i32 ((q + 1 : Nat) : Int) else i32 (-1))) →
    ∃ σ', rn L xs (d + 1) 226 12 [.ref 103, .int (i32 (k : Int))] [] σ = some (.inl none, σ') ∧ rd σ' 103 8 = 0 ∧ (∀ q, q < pgs → rd σ' 106 q = (if q + 1 < pgs then i32 ((q + 1 : Nat) : Int) else i32 (-1))) ∧ (∀ q, q ≠ 8 → rd σ' 103 q = rd σ 103 q) ∧ frW [103, 106] σ σ' := by
  intro j
  induction j with
  | zero =>
    intro k σ hk h4 hq
    have e : k = pgs := by omega
    subst e
    refine ⟨wr σ 103 8 0, ?_, wr_self _ _ _ _, fun q h => by rw [wr_nek (by decide)]; exact hq q h, fun q h => wr_nei h, frW_wr rfl⟩
    rw [e226_12, h4, c2_ge (by omega) (by omega) (by omega) (by omega), c_t (by omega), e226_49]
  | succ j ih =>
    intro k σ hk h4 hq
    have step : ∀ x : Int32, x = (if k + 1 < pgs then i32 ((k + 1 : Nat) : Int) else i32 (-1)) → rn L xs (d + 1) 226 42 [.ref 103, .int (i32 (k : Int))] [.int x, .int (i32 (k : Int)), .ref 106] σ = rn L xs (d + 1) 226 12 [.ref 103, .int (i32 ((k + 1 : Nat) : Int))] [] (wr σ 106 k x) := fun x _ => by
      rw [e226_42, c_in (by omega) (by omega) (by omega), i32_ixn (by omega), i32_up]
    obtain ⟨σ', a1, a2, a3, a4, a5⟩ := ih (k + 1) (wr σ 106 k (if k + 1 < pgs then i32 ((k + 1 : Nat) : Int) else i32 (-1))) (by omega) (by rw [wr_nek (by decide)]; exact h4) (fun q h => by
      by_cases e : q = k
      · subst e; rw [wr_self]
      · rw [wr_nei e]; exact hq q (by omega))
    refine ⟨σ', ?_, a2, a3, fun q h => by rw [a4 q h, wr_nek (by decide)], (frW_wr rfl).trans a5⟩
    rw [e226_12, h4, c2_ge (by omega) (by omega) (by omega) (by omega), c_f (by omega), i32_up, c2_ge (by omega) (by omega) (by omega) (by omega)]
    by_cases c : k + 1 < pgs
    · rw [if_pos c] at a1
      rw [c_f (by omega), step _ (by rw [if_pos c])]; exact a1
    · rw [if_neg c] at a1
      rw [c_t (by omega), e226_41, i32_raw, step _ (by rw [if_neg c])]; exact a1
/-- all pages are free -/
def FRE (pgs : Nat) (σ : tvS) : Prop := rd σ 103 8 = hdP (rgL 0 pgs) ∧ lkF (rd σ 106) (rgL 0 pgs) (hdP (rgL 0 pgs)) ∧ rd σ 103 9 = 0 ∧ rd σ 103 19 = 0
theorem release_c (hpg : pgs ≤ 400) (hp1 : 1 ≤ pgs) (h4 : rd σ 103 4 = i32 (pgs : Int)) (d : Nat) : ∃ σ', rn L xs (d + 1) 226 0 [.ref 103, jv] [] σ = some (.inl none, σ') ∧ FRE pgs σ' ∧ (∀ q, q ≠ 8 → q ≠ 9 → q ≠ 19 → rd σ' 103 q = rd σ 103 q) ∧ frW [103, 106] σ σ' := by
  obtain ⟨σ', a1, a2, a3, a4, a5⟩ := rel_loop (L := L) (xs := xs) (pgs := pgs) hpg d pgs 0 (wr (wr σ 103 19 0) 103 9 0) (by omega) (by rw [wr_nei (by decide), wr_nei (by decide)]; exact h4) (fun q h => by omega)
  refine ⟨σ', ?_, ⟨?_, ?_, ?_, ?_⟩, fun q q1 q2 q3 => by rw [a4 q q1, wr_nei q2, wr_nei q3], ((frW_wr rfl).trans (frW_wr rfl)).trans a5⟩
  · rw [e226_0]; exact a1
  · rw [a2]
    obtain ⟨k, hk⟩ : ∃ k, pgs = k + 1 := ⟨pgs - 1, by omega⟩
    rw [hk]; rfl
  · exact rgL_lk pgs 0 (fun q _ q2 => by rw [a3 q (by omega), Nat.zero_add])
  · rw [a4 9 (by decide), wr_self]
  · rw [a4 19 (by decide), wr_nei (by decide), wr_self]
/-- it is over: what is told of it -/
def CVR (st c : Nat) (s : cSt) (B no pgs wd ev : Nat) (σ : tvS) : Prop := FRE pgs σ ∧ (rd σ 117 5 = i32 (c : Int) ∧ rd σ 117 6 = i32 (st : Int) ∧ rd σ 117 7 = i32 (ev : Int) ∧ rd σ 117 17 = 0 ∧ rd σ 100 2 = 0) ∧ rd σ 103 4 = i32 (pgs : Int) ∧ rd σ 103 5 = i32 (wd : Int) ∧ rd σ 103 10 = i32 (s.pk : Int) ∧ rd σ 103 20 = i32 ((B - 1 : Nat) : Int) ∧ rd σ 103 21 = i32 (no : Int) ∧ rd σ 103 22 = i32 (s.cl : Int) ∧ rd σ 103 23 = i32 (s.cp : Int)
theorem end_c {c : Nat} (hpg : pgs ≤ 400) (hp1 : 1 ≤ pgs) (h4 : rd σ 103 4 = i32 (pgs : Int)) (h5 : rd σ 103 5 = i32 (wd : Int)) (h10 : rd σ 103 10 = i32 (s.pk : Int)) (h20 : rd σ 103 20 = i32 ((B - 1 : Nat) : Int)) (h21 : rd σ 103 21 = i32 (no : Int)) (h22 : rd σ 103 22 = i32 (s.cl : Int)) (h23 : rd σ 103 23 = i32 (s.cp : Int)) (h6 : rd σ 117 6 = i32 (st : Int)) (h7 : rd σ 117 7 = i32 (ev : Int)) (d : Nat) :
    ∃ σ', rn L xs (d + 2) 252 0 [.ref 117, .int (i32 (c : Int))] [] σ = some (.inl none, σ') ∧ CVR st c s B no pgs wd ev σ' ∧ frW [100, 103, 106, 117] σ σ' := by
  have p1 : rn L xs (d + 1) 216 0 [.ref 100] [] (wr σ 117 5 (i32 (c : Int))) = some (.inl none, wr (wr σ 117 5 (i32 (c : Int))) 100 2 0) := e216_0 d _
  obtain ⟨σ1, a1, a2, a3, a4⟩ := release_c (L := L) (xs := xs) (σ := wr (wr σ 117 5 (i32 (c : Int))) 100 2 0) hpg hp1 (by rw [wr_nek (by decide), wr_nek (by decide)]; exact h4) d
  have k103 : ∀ q, q ≠ 8 → q ≠ 9 → q ≠ 19 → rd (wr σ1 117 17 0) 103 q = rd σ 103 q := fun q q1 q2 q3 => by rw [wr_nek (by decide), a3 q q1 q2 q3, wr_nek (by decide), wr_nek (by decide)]
  have k117 : ∀ q, q ≠ 17 → rd (wr σ1 117 17 0) 117 q = rd (wr σ 117 5 (i32 (c : Int))) 117 q := fun q q1 => by rw [wr_nei q1, a4.1 117 rfl, wr_nek (by decide)]
  obtain ⟨b1, b2, b3, b4⟩ := a2
  refine ⟨wr σ1 117 17 0, ?_, ⟨⟨by rw [wr_nek (by decide)]; exact b1, lkF.congr _ _ b2 (fun q _ => wr_nek (by decide)), by rw [wr_nek (by decide)]; exact b3, by rw [wr_nek (by decide)]; exact b4⟩, ⟨by rw [k117 5 (by decide), wr_self], by rw [k117 6 (by decide), wr_nei (by decide)]; exact h6, by rw [k117 7 (by decide), wr_nei (by decide)]; exact h7, wr_self _ _ _ _, by rw [wr_nek (by decide), a4.1 100 rfl, wr_self]⟩, by rw [k103 4 (by decide) (by decide) (by decide)]; exact h4, by rw [k103 5 (by decide) (by decide) (by decide)]; exact h5, by rw [k103 10 (by decide) (by decide) (by decide)]; exact h10, by rw [k103 20 (by decide) (by decide) (by decide)]; exact h20, by rw [k103 21 (by decide) (by decide) (by decide)]; exact h21, by rw [k103 22 (by decide) (by decide) (by decide)]; exact h22, by rw [k103 23 (by decide) (by decide) (by decide)]; exact h23⟩, (((frW_wr rfl).trans (frW_wr rfl)).trans (a4.sub rfl)).trans (frW_wr rfl)⟩
  rw [e252_0 (d + 1), bV_ok p1, bV_ok a1]
end CMEM
