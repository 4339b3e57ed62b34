/-! READING: what comes behind, the model -/
def mTwo (τ : tvS) (n A : Nat) (on sg opd : Int32) : tvS := mPush (mPush (mPush (wr τ 123 17 (i32 (A + 1 : Nat))) n on 0 0) (n + 1) 20 sg 0) (n + 2) opd 0 0
section ON
variable {L : Nat} {xs : Nat → Int32} {K1 K2 m : Nat} {μ : Nat → Nat} {g fc : Nat} {sc : List Nat} {fs fs' : List (Nat × Nat × List Nat)} {F D H n A P r r0 : Nat} {σ τ σ' τ' σ1 τ1 : tvS}
theorem on_nx {X : Nat} (h : ST K1 K2 m μ g fc sc fs D H (n + 1) A P r σ τ) (hX : rd τ 132 n = i32 X) (hc : X = 4 ∨ X = 6 ∨ X = 8 ∨ X = 10 ∨ X = 12) (hrun : ∀ d, rn L xs (d + 7) 316 0 [.ref 123, .int (i32 X), jv] [] (wr τ 123 18 (i32 n)) = some (.inl none, τ')) : mS L xs τ τ' := by
  obtain ⟨o1, o2, o3, o4, o5, o6, ⟨s1, s2, s3, s4, s5, s6, s7, s8, s9, s10, s11, s12⟩, o8, o9, o10⟩ := h.all
  have key : ∀ pc, ((insP 310 41).bind fun q => tv_sw q.1 41 (i32 X)) = some pc → pc = 314 → mS L xs τ τ' := by
    intro pc h1 h2
    subst h2
    refine nx s6 (by omega) o3 ⟨hX, rfl, rfl⟩ h1 (fun dm => ?_)
    rw [e310_314 (dm + 7), bV_ok (hrun dm), e310_362]
  rcases hc with e | e | e | e | e <;> subst e <;> exact key 314 (by decide +kernel) rfl
theorem mcond {k y : Nat} {x : Int32} {α : Type} {a b : α} (hx : x = i32 y) (hk : k ≤ 36) (hy : y ≤ 36) : cond (pv_c2 .eq (i32 k) x) a b = if k = y then a else b := by
  rw [hx, c2_eq (by omega) (by omega) (by omega) (by omega)]
  by_cases q : k = y
  · rw [if_pos q, c_t (by omega)]
  · rw [if_neg q, c_f (by omega)]
theorem mcondn {k y : Nat} {x : Int32} {α : Type} {a b : α} (hx : x = i32 y) (hk : k ≤ 36) (hy : y ≤ 36) : cond (pv_c2 .ne (i32 k) x) a b = if k = y then b else a := by
  rw [hx, c2_ne (by omega) (by omega) (by omega) (by omega)]
  by_cases q : k = y
  · rw [if_pos q, c_f (by omega)]
  · rw [if_neg q, c_t (by omega)]
theorem rsg_run {on : Nat} {o opd : Int32} (h : ST K1 K2 m μ g fc sc fs D H n A P r σ τ) (ho : o = i32 on) (h1 : 0 < on) (h2 : on < 100) (hA : A < m) (d : Nat) : rn L xs (d + 2) 317 0 [.ref 123, .int opd, .int o, jv] [] τ = some (.inl none, mTwo τ n A o (i32 (μ A)) opd) := by
  obtain ⟨o1, o2, o3, o4, o5, o6, ⟨s1, s2, s3, s4, s5, s6, s7, s8, s9, s10, s11, s12⟩, o8, o9, o10⟩ := h.all
  rw [e317_0 (d + 1), bI_ok (h.mk d), s2, i32_n1, ho, c1_le (by omega) (by omega), c_f (by omega), bV_ok (mpush_ok (n := n) (by rw [rd_wr, if_neg (by omega)]; exact s6) (by omega) d _ _ _), e317_26 (d + 1), bV_ok (mpush_ok (n := n + 1) mPush_come (by omega) d _ _ _), bV_ok (mpush_ok (n := n + 2) mPush_come (by omega) d _ _ _)]
  rfl
theorem rsg_run0 {opd : Int32} (h : ST K1 K2 m μ g fc sc fs D H n A P r σ τ) (d : Nat) : rn L xs (d + 2) 317 0 [.ref 123, .int opd, .int 0, jv] [] τ = some (.inl none, mPush (mPush (wr τ 123 17 (i32 (A + 1 : Nat))) n 20 (i32 (μ A)) 0) (n + 1) opd 0 0) := by
  obtain ⟨o1, o2, o3, o4, o5, o6, ⟨s1, s2, s3, s4, s5, s6, s7, s8, s9, s10, s11, s12⟩, o8, o9, o10⟩ := h.all
  rw [e317_0 (d + 1), bI_ok (h.mk d), s2, i32_n1, show pv_c1 .le (0 : Int32) = true from rfl, cond_true, e317_26 (d + 1), bV_ok (mpush_ok (n := n) (by rw [rd_wr, if_neg (by omega)]; exact s6) (by omega) d _ _ _), bV_ok (mpush_ok (n := n + 1) mPush_come (by omega) d _ _ _)]
theorem on8 (h : ST K1 K2 m μ g fc sc fs D H n A P r σ τ) (d : Nat) : rn L xs (d + 7) 316 0 [.ref 123, .int (i32 8), jv] [] τ = some (.inl none, if μ A = 30 ∨ μ A = 31 then mTwo τ n A 8 (i32 (μ A)) 9 else τ) := by
  have h36 := h.mu36
  have e125 : μ A = 30 ∨ μ A = 31 → ∀ v1 v2, rn L xs (d + 7) 316 125 [.ref 123, v1, v2] [] τ = some (.inl none, mTwo τ n A 8 (i32 (μ A)) 9) := fun q v1 v2 => by
    rw [e316_125 (d + 6), bV_ok (rsg_run h (o := 8) (on := 8) rfl (by omega) (by omega) (h.lt (by omega)) (d + 4)), e316_196]
  rw [e316_0 (d + 6), bI_ok (h.mk (d + 5)), swk_of (p := 113) (by decide +kernel), e316_113 (d + 6), mcond (x := 30) (y := 30) rfl h36 (by omega), mcondn (x := 31) (y := 31) rfl h36 (by omega)]
  by_cases q : μ A = 30
  · rw [if_pos q, if_pos (Or.inl q), e125 (Or.inl q)]
  · by_cases q2 : μ A = 31
    · rw [if_neg q, if_pos q2, if_pos (Or.inr q2), e125 (Or.inr q2)]
    · rw [if_neg q, if_neg q2, if_neg (by omega), e316_196]
theorem on10 (h : ST K1 K2 m μ g fc sc fs D H n A P r σ τ) (d : Nat) : rn L xs (d + 7) 316 0 [.ref 123, .int (i32 10), jv] [] τ = some (.inl none, if μ A = 32 ∨ μ A = 33 ∨ μ A = 34 then mTwo τ n A 10 (i32 (μ A)) 11 else τ) := by
  have h36 := h.mu36
  have e154 : μ A = 32 ∨ μ A = 33 ∨ μ A = 34 → ∀ v1 v2, rn L xs (d + 7) 316 154 [.ref 123, v1, v2] [] τ = some (.inl none, mTwo τ n A 10 (i32 (μ A)) 11) := fun q v1 v2 => by
    rw [e316_154 (d + 6), bV_ok (rsg_run h (o := 10) (on := 10) rfl (by omega) (by omega) (h.lt (by omega)) (d + 4)), e316_196]
  rw [e316_0 (d + 6), bI_ok (h.mk (d + 5)), swk_of (p := 136) (by decide +kernel), e316_136 (d + 6), mcond (x := 32) (y := 32) rfl h36 (by omega), mcond (x := 33) (y := 33) rfl h36 (by omega), mcondn (x := 34) (y := 34) rfl h36 (by omega)]
  by_cases q : μ A = 32
  · rw [if_pos q, if_pos (by omega), e154 (by omega)]
  · by_cases q2 : μ A = 33
    · rw [if_neg q, if_pos q2, if_pos (by omega), e154 (by omega)]
    · by_cases q3 : μ A = 34
      · rw [if_neg q, if_neg q2, if_pos q3, if_pos (by omega), e154 (by omega)]
      · rw [if_neg q, if_neg q2, if_neg q3, if_neg (by omega), e316_196]
theorem on6 (h : ST K1 K2 m μ g fc sc fs D H n A P r σ τ) (d : Nat) : rn L xs (d + 7) 316 0 [.ref 123, .int (i32 6), jv] [] τ = some (.inl none, if μ A = 21 ∨ μ A = 29 ∨ μ A = 22 then mPush (mPush (wr τ 123 17 (i32 (A + 1 : Nat))) n 20 (i32 (μ A)) 0) (n + 1) 7 0 0 else τ) := by
  have h36 := h.mu36
  have e103 : ∀ v1 v2, rn L xs (d + 7) 316 103 [.ref 123, v1, v2] [] τ = some (.inl none, mPush (mPush (wr τ 123 17 (i32 (A + 1 : Nat))) n 20 (i32 (μ A)) 0) (n + 1) 7 0 0) := fun v1 v2 => by
    rw [e316_103 (d + 6), bV_ok (rsg_run0 h (d + 4)), e316_196]
  rw [e316_0 (d + 6), bI_ok (h.mk (d + 5)), swk_of (p := 85) (by decide +kernel), e316_85 (d + 6), mcond (x := 21) (y := 21) rfl h36 (by omega), mcond (x := 29) (y := 29) rfl h36 (by omega), mcondn (x := 22) (y := 22) rfl h36 (by omega)]
  by_cases q : μ A = 21
  · rw [if_pos q, if_pos (by omega), e103]
  · by_cases q2 : μ A = 29
    · rw [if_neg q, if_pos q2, if_pos (by omega), e103]
    · by_cases q3 : μ A = 22
      · rw [if_neg q, if_neg q2, if_pos q3, if_pos (by omega), e103]
      · rw [if_neg q, if_neg q2, if_neg q3, if_neg (by omega), e316_196]
theorem on4 (h : ST K1 K2 m μ g fc sc fs D H n A P r σ τ) (d : Nat) : rn L xs (d + 7) 316 0 [.ref 123, .int (i32 4), jv] [] τ = some (.inl none, if μ A = 23 then wr (mPush (mPush τ n 21 (i32 A) 0) (n + 1) 3 0 0) 123 17 (i32 (A + 1 : Nat)) else τ) := by
  obtain ⟨o1, o2, o3, o4, o5, o6, ⟨s1, s2, s3, s4, s5, s6, s7, s8, s9, s10, s11, s12⟩, o8, o9, o10⟩ := h.all
  have h36 := h.mu36
  rw [e316_0 (d + 6), bI_ok (h.mk (d + 5)), swk_of (p := 48) (by decide +kernel), e316_48 (d + 6), mcondn (x := 23) (y := 23) rfl h36 (by omega)]
  by_cases q : μ A = 23
  · rw [if_pos q, if_pos q, s2, bV_ok (mpush_ok (n := n) s6 (by omega) (d + 5) _ _ _), bV_ok (mpush_ok (n := n + 1) mPush_come (by omega) (d + 5) _ _ _), mPush_s (by omega), mPush_s (by omega), s2, i32_n1, e316_196]
  · rw [if_neg q, if_neg q, e316_196]
theorem on12 (h : ST K1 K2 m μ g fc sc fs D H n A P r σ τ) (d : Nat) : rn L xs (d + 7) 316 0 [.ref 123, .int (i32 12), jv] [] τ = some (.inl none, if ast (μ A) = true then mPush (mPush (mPush τ n 12 0 0) (n + 1) 22 0 0) (n + 2) 13 0 0 else τ) := by
  obtain ⟨o1, o2, o3, o4, o5, o6, ⟨s1, s2, s3, s4, s5, s6, s7, s8, s9, s10, s11, s12⟩, o8, o9, o10⟩ := h.all
  have h36 := h.mu36
  have e39 : ∀ v0 v1, rn L xs (d + 6) 318 39 [v0, v1] [] τ = some (.inl (some (.int 1)), τ) := fun v0 v1 => by rw [e318_39 (d + 5), e318_44 (d + 5)]; rfl
  have e43 : ∀ v0 v1, rn L xs (d + 6) 318 43 [v0, v1] [] τ = some (.inl (some (.int 0)), τ) := fun v0 v1 => by rw [e318_43 (d + 5), e318_44 (d + 5)]; rfl
  have e318 : rn L xs (d + 6) 318 0 [.ref 123, jv] [] τ = some (.inl (some (.int (bN (ast (μ A))))), τ) := by
    rw [e318_0 (d + 5), bI_ok (h.mk (d + 4)), mcond (x := 2) (y := 2) rfl h36 (by omega), mcond (x := 13) (y := 13) rfl h36 (by omega), mcond (x := 1) (y := 1) rfl h36 (by omega), mcond (x := 24) (y := 24) rfl h36 (by omega), mcond (x := 14) (y := 14) rfl h36 (by omega), mcondn (x := 15) (y := 15) rfl h36 (by omega), e39, e43]
    have hd : ∀ x, x ≤ 36 → (if x = 2 then (1 : Int32) else if x = 13 then 1 else if x = 1 then 1 else if x = 24 then 1 else if x = 14 then 1 else if x = 15 then 1 else 0) = bN (ast x) := by
      intro x hx
      have : ∀ x, x < 37 → (if x = 2 then (1 : Int32) else if x = 13 then 1 else if x = 1 then 1 else if x = 24 then 1 else if x = 14 then 1 else if x = 15 then 1 else 0) = bN (ast x) := by decide +kernel
      exact this x (by omega)
    rw [← hd _ h36]
    split <;> (try split) <;> (try split) <;> (try split) <;> (try split) <;> (try split) <;> rfl
  rw [e316_0 (d + 6), bI_ok (h.mk (d + 5)), swk_of (p := 165) (by decide +kernel), e316_165 (d + 6), bI_ok e318, c1_eq_bN]
  by_cases q : ast (μ A) = true
  · rw [if_pos q, q, cond_true, bV_ok (mpush_ok (n := n) s6 (by omega) (d + 5) _ _ _), bV_ok (mpush_ok (n := n + 1) mPush_come (by omega) (d + 5) _ _ _), bV_ok (mpush_ok (n := n + 2) mPush_come (by omega) (d + 5) _ _ _), e316_196]
  · rw [if_neg q, show ast (μ A) = false from by cases e : ast (μ A) with | false => rfl | true => exact absurd e q, cond_false, e316_196]
end ON
