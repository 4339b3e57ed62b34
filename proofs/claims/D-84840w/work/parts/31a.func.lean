/-! READING: functions; what the tables of functions say -/
section FUNC1
variable {L : Nat} {xs : Nat → Int32} {K1 K2 m : Nat} {μ : Nat → Nat} {g fc : Nat} {sc : List Nat} {fs fs' : List (Nat × Nat × List Nat)} {F D H n A P r r0 : Nat} {σ τ σ' τ' σ1 τ1 : tvS}
/-- a change of functions' tables -/
theorem CORE.gen {g' fc' A' : Nat} (h : CORE K1 K2 m μ g fc sc fs F A P r σ τ) (hA : A ≤ A') (hP : P ≤ 4101)
    (hC : ∀ j i, ¬ (43 ≤ j ∧ j ≤ 49) → ¬ (j = 15 ∧ i = 38) → ¬ (j = 62 ∧ i = 7) → ¬ (j = 25 ∧ rd σ 24 i = i32 (-1)) → scC j i = false → rd σ' j i = rd σ j i)
    (hM : ∀ j i, ¬ (138 ≤ j ∧ j ≤ 144) → j ≠ 202 → ¬ (j = 123 ∧ (i = 27 ∨ i = 28)) → scM j i = false → rd τ' j i = rd τ j i)
    (hl : ∀ j i, j ≠ 42 → rl σ' j i = rl σ j i) (h2 : σ'.2.2 = σ.2.2) (hF : FNC m g' fc' σ' τ') (h38 : ix (rd σ 15 38) ≤ ix (rd σ' 15 38))
    (hcal : ∀ p f : Nat, p < P → rd σ 16 p = i32 3 → f < ix (rd σ 15 38) → rd σ 27 p = i32 f → rd σ' 44 f = rd σ 44 f ∧ rd σ' 46 f = rd σ 46 f) : CORE K1 K2 m μ g' fc' sc fs F A' P r σ' τ' := by
  obtain ⟨V, S, C, q, cp, a1, a2, ⟨a3, a4⟩, ⟨a5, a6, a7, a8⟩, a9, ⟨a10, a11⟩, a12, a13, a14, a15, a16, a17, b1, b2, b3, b4, b5, b6, b7, b8, b9⟩ := h
  have hln : ∀ j, ln σ' j = ln σ j := fun j => by unfold ln; rw [h2]
  have hrm : rm σ' = rm σ := by unfold rm; rw [h2]
  have hc : ∀ j i, j < 42 → j ≠ 15 → j ≠ 25 → rd σ' j i = rd σ j i := fun j i h1 h3 h4 => hC j i (by omega) (by omega) (by omega) (by omega) (scC_lo (by omega))
  have hc5 : ∀ i, i ≠ 38 → rd σ' 15 i = rd σ 15 i := fun i hi => hC 15 i (by omega) (by omega) (by omega) (by omega) rfl
  have hm : ∀ j i, 124 ≤ j ∧ j < 132 ∨ 145 ≤ j ∧ j ≠ 202 → rd τ' j i = rd τ j i := fun j i h1 => hM j i (by omega) (by omega) (by omega) (by
    rcases h1 with h | h
    · exact scM_lo h.1 h.2
    · exact scM_hi (by omega))
  have hm3 : ∀ i, i ≠ 27 → i ≠ 28 → scM 123 i = false → rd τ' 123 i = rd τ 123 i := fun i h1 h3 h4 => hM 123 i (by omega) (by omega) (by omega) h4
  obtain ⟨l1, l2⟩ := a1.congr (σ' := σ') (τ' := τ') (fun j hj i => by have := inL3 hj; exact hc j i (by omega) (by omega) (by omega)) (fun i => hl _ _ (by omega)) (fun j hj i => by have := inL3 hj; exact hm j i (by omega))
  refine ⟨V, S, C, q, cp, l1, l2.trans a2, ⟨(hc5 13 (by omega)).trans a3, (hm3 46 (by omega) (by omega) rfl).trans a4⟩, ⟨(hc5 19 (by omega)).trans a5, (hm3 36 (by omega) (by omega) rfl).trans a6, by omega, by omega⟩, (hc5 26 (by omega)).trans a9, ⟨(hm3 60 (by omega) (by omega) rfl).trans a10, a11⟩, (hm3 5 (by omega) (by omega) rfl).trans a12, hF,
    a14.congr l2 (fun v hv => ⟨hc 30 v (by omega) (by omega) (by omega), hl _ _ (by omega), hm 146 v (by omega), hm 145 v (by omega)⟩) (fun i => hl _ _ (by omega)) (fun i => hm 129 i (by omega)),
    a15.congr (hC 62 5 (by omega) (by omega) (by omega) (by omega) rfl) (fun v hv => ⟨hc 32 v (by omega) (by omega) (by omega), hc 33 v (by omega) (by omega) (by omega), hl _ _ (by omega), hm 147 v (by omega)⟩) (fun i hi => by rcases hi with e | e | e <;> rw [e] <;> exact hm3 _ (by omega) (by omega) rfl) (fun j hj i _ => hm j i (by omega)) (fun i _ => hm 148 i (by omega)),
    fun p hp => ?_, ?_, b1.congr (fun j _ _ i => hc j i (by omega) (by omega) (by omega)) (hc5 29 (by omega)) (hln 40), ?_, b3, b4, fun e he => ?_, fun v hv => by rw [hc 31 v (by omega) (by omega) (by omega)]; exact b6 v hv, b7, fun p hp hk => ?_, fun f hf => ?_⟩
  · exact ((a16 p hp).mono hA).stay (by omega) (fun j i _ _ _ _ _ _ => hc j i (by omega) (by omega) (by omega)) (fun j i _ h24 hj => hC j i (by omega) (by omega) (by omega) (fun q => h24 q.2) (scC_lo (by omega))) (fun e => by rw [hm 159 p (by omega), hc 24 p (by omega) (by omega) (by omega)]; exact e) (fun _ f _ _ _ => ⟨hc 35 f (by omega) (by omega) (by omega), hc 36 f (by omega) (by omega) (by omega)⟩)
      (fun l x hx => hx.congr (by rw [hc5 19 (by omega)]; exact Nat.le_refl _) (fun v _ => ⟨hc 33 v (by omega) (by omega) (by omega), hc 32 v (by omega) (by omega) (by omega)⟩)) (fun v _ => hc 31 v (by omega) (by omega) (by omega)) (fun h3 f hf h27 => hcal p f hp h3 hf h27) h38 (by rw [hc5 19 (by omega)]; exact Nat.le_refl _) (fun l x hx => hx.congr (Nat.le_refl _) _ _ (fun s _ => ⟨hm 149 s (by omega), hm 150 s (by omega)⟩)) (fun j _ _ _ => hm j p (by omega)) (fun i _ => hm 164 i (by omega)) (by rw [hm3 60 (by omega) (by omega) rfl]; exact Nat.le_refl _)
  · unfold roomC at a17 ⊢
    rw [hln, hln, hrm]
    exact a17
  · rw [hC 62 6 (by omega) (by omega) (by omega) (by omega) rfl]; exact b2.congr _ _ (fun e _ => hc 34 e.1 (by omega) (by omega) (by omega))
  · obtain ⟨c1, c2, c3, c4⟩ := b5 e he
    exact ⟨c1, c2, c3, by rw [c4, capW.congr _ (fun i _ => ⟨hc 16 i (by omega) (by omega) (by omega), hc 27 i (by omega) (by omega) (by omega)⟩)]⟩
  · rw [hc 16 p (by omega) (by omega) (by omega)] at hk
    obtain ⟨f, s, l, c1, c2, c3, c4, c5, c6, c7⟩ := b8 p hp hk
    exact ⟨f, s, l, (hc 27 p (by omega) (by omega) (by omega)).trans c1, c2, c3, (hc 26 p (by omega) (by omega) (by omega)).trans c4, c5, by rw [hc 28 p (by omega) (by omega) (by omega)]; exact c6.congr _ _ (fun v _ => ⟨hc 33 v (by omega) (by omega) (by omega), hc 32 v (by omega) (by omega) (by omega)⟩), by rw [c7, capW.congr _ (fun i _ => ⟨hc 16 i (by omega) (by omega) (by omega), hc 27 i (by omega) (by omega) (by omega)⟩)]⟩
  · rcases b9 f hf with e | ⟨p, c1, c2, c3, c4⟩
    · exact Or.inl e
    · exact Or.inr ⟨p, c1, (hc 16 p (by omega) (by omega) (by omega)).trans c2, (hc 27 p (by omega) (by omega) (by omega)).trans c3, (hc 35 f (by omega) (by omega) (by omega)).trans c4⟩
/-- parameters, the latest first -/
def pls (V : Nat) : Nat → List Nat
  | 0 => []
  | k + 1 => (V + k) :: pls V k
theorem pls_len (V : Nat) : ∀ k, (pls V k).length = k := by
  intro k
  induction k with
  | zero => rfl
  | succ k ih => show (pls V k).length + 1 = k + 1; rw [ih]
/-- the head of a function -/
def FRh (m : Nat) (σ τ : tvS) (f k P0 V0 F0 S0 : Nat) : Prop := (∃ lx : Nat, lx < m ∧ rd σ 43 f = i32 lx ∧ rd τ 139 f = i32 lx) ∧ rd σ 44 f = i32 k ∧ rd τ 140 f = i32 k ∧ k ≤ 5 ∧ rd σ 45 f = i32 V0 ∧ rd τ 141 f = i32 V0 ∧ rd τ 144 f = i32 V0 ∧ rd σ 46 f = i32 P0 ∧ rd τ 143 f = i32 P0 ∧ rd σ 48 f = i32 F0 ∧ rd τ 202 f = i32 (S0 + 1 : Nat)
/-- its parts bind its variables, each its own -/
def UBF (P0 P1 V0 V1 : Nat) (σ : tvS) : Prop := (∀ p v, P0 ≤ p → p < P1 → bnd σ p v → V0 ≤ v ∧ v < V1) ∧ (∀ p p' v, P0 ≤ p → p < P1 → P0 ≤ p' → p' < P1 → bnd σ p v → bnd σ p' v → p = p')
/-- older parts end ahead of its name -/
def LXP (f k P0 : Nat) (σ : tvS) : Prop := (∀ p, p < P0 → ix (rd σ 18 p) < ix (rd σ 43 f)) ∧ (k = 0 ∨ ∀ p, p < P0 → ix (rd σ 18 p) + 1 < ix (rd σ 43 f))
/-- what it does -/
def FRe (σ τ : tvS) (f k P0 V0 F0 S0 P1 V1 F1 S1 : Nat) : Prop := rd σ 47 f = i32 P1 ∧ rd σ 49 f = i32 F1 ∧ rd τ 142 f = i32 (P1 - 1 : Nat) ∧ (P0 < P1 ∧ V0 + k ≤ V1 ∧ F0 ≤ F1 ∧ S0 ≤ S1) ∧
  (rd σ 26 (P1 - 1) = i32 P0 ∧ rd σ 24 (P1 - 1) = i32 (-1) ∧ rd σ 25 (P1 - 1) = i32 11 ∧ chC σ (pls V0 k) (rd σ 28 (P1 - 1))) ∧ (∀ i, i < k → rd σ 31 (V0 + i) = i32 (-1)) ∧
  (∀ p, P0 ≤ p → p < P1 → zl (S0 + 1) (rd τ 160 p)) ∧ (∀ s, S0 + 1 ≤ s → s ≤ S1 → zl (S0 + 1) (rd τ 150 s) ∧ scOK V0 V1 s (rd τ 149 s) (rd τ 150 s)) ∧
  (∀ p, p < P1 → rd σ 16 p = i32 17 → ix (rd σ 27 p) < F1) ∧ (∀ h : Nat, h < F1 → ∃ p, p < P1 ∧ rd σ 16 p = i32 17 ∧ rd σ 27 p = i32 h) ∧
  (∀ v, V0 + k ≤ v → v < V1 → ∃ p, P0 ≤ p ∧ p < P1 ∧ bnd σ p v) ∧ (∀ p, p < P1 → rd σ 28 p = i32 (-1) ∨ ix (rd σ 28 p) < V1) ∧
  UBF P0 P1 (V0 + k) V1 σ ∧ (∀ p, P0 ≤ p → p < P1 → ix (rd σ 43 f) < ix (rd σ 17 p)) ∧ LXP f k P0 σ
theorem prtR.head {S p : Nat} {m : Nat} (h : prtR m S σ τ p) : rd σ 28 p = i32 (-1) ∨ ix (rd σ 28 p) < ix (rd σ 15 19) := by
  obtain ⟨κ, s, kids, _, _, _, _, _, _, _, _, _, _, ⟨l, ⟨h1, h2⟩, _⟩, _⟩ := h
  cases l with
  | nil => exact .inl h1
  | cons v r =>
    right
    have h3 := h2 v List.mem_cons_self
    rw [h1.1, i32_ixn (by have := h1.2.1; omega)]
    exact h3
end FUNC1
