/-! COLLECTIONS, MODEL -/
/-- what is met so far -/
def MQu (Q : List Nat) (mt no : Nat) (τ : tvS) : Prop := rd τ 123 162 = i32 (mt : Int) ∧ okQ no Q ∧ (∀ (j o : Nat), Q[j]? = some o → rd τ 233 j = i32 (o : Int)) ∧ ∀ o, 1 ≤ o → o ≤ no → (o ∈ Q → rd τ 232 o = i32 (mt : Int)) ∧ (o ∉ Q → ∃ z : Nat, rd τ 232 o = i32 (z : Int) ∧ z < mt)
section MCOLLECT
variable {L : Nat} {xs : Nat → Int32} {τ τ' τ0 : tvS} {n nr i fil mt no : Nat} {Q : List Nat} {v : vaL} {X : dyD} {Y : rgY} {oa : Nat → Nat} {ct : Nat × Nat × Nat × Nat × Nat} {B wd pgs U : Nat} {S F : List Nat}
theorem MQu.fr (h : MQu Q mt no τ) (w : frM S F τ τ') (h1 : inL (123 :: S) 232 = false) (h2 : inL (123 :: S) 233 = false) (h3 : inL F 162 = false) : MQu Q mt no τ' := by
  obtain ⟨a, b, c, d⟩ := h
  exact ⟨by rw [w.2 162 h3]; exact a, b, fun j o hj => by rw [w.rd h2]; exact c j o hj, fun o o1 o2 => by rw [w.rd h1]; exact d o o1 o2⟩
theorem meet_m (h : MQu Q mt no τ) (hv : VOK no v) (hk : v.1 ≤ 2) (hno : no ≤ 30000) (hmt : mt < 2147483648) (d : Nat) :
    ∃ τ', rn L xs (d + 1) 405 0 [.ref 123, .int (i32 (v.1 : Int)), .int v.2, .int (i32 (Q.length : Int))] [] τ = some (.inl (some (.int (i32 ((meQ Q v).length : Int)))), τ') ∧ MQu (meQ Q v) mt no τ' ∧ frM [232, 233] [] τ τ' := by
  obtain ⟨h1, h2, h3, h4⟩ := h
  have hl := h2.len
  rw [e405_0, show (2 : Int32) = i32 ((2 : Nat) : Int) from rfl, c2_ne (by omega) (by omega) (by omega) (by omega)]
  by_cases q : v.1 = 2
  · obtain ⟨o, e, o1, o2⟩ := hv q
    have eo := oid_of e (by omega)
    rw [c_f (by omega), e, c_in (by omega) (by omega) (by omega), i32_ixn (by omega), h1]
    obtain ⟨g1, g2⟩ := h4 o o1 o2
    by_cases m : o ∈ Q
    · rw [g1 m, show pv_c2 .ne (i32 (mt : Int)) (i32 (mt : Int)) = false by rw [c2_ne (by omega) (by omega) (by omega) (by omega)]; exact decide_eq_false (fun h => h rfl), cond_false, e405_18]
      have em : meQ Q v = Q := by unfold meQ; rw [if_neg (fun h => h.2 (by rw [eo]; exact m))]
      rw [em]
      exact ⟨τ, rfl, ⟨h1, h2, h3, h4⟩, frM.refl⟩
    · obtain ⟨z, z1, z2⟩ := g2 m
      rw [z1, c2_ne (by omega) (by omega) (by omega) (by omega), c_t (by omega), e405_20, h1, c_in (by omega) (by omega) (by omega), c_in (by omega) (by omega) (by omega), i32_ixn (by omega), i32_ixn (by omega), i32_up]
      have em : meQ Q v = Q ++ [o] := by unfold meQ; rw [if_pos ⟨q, by rw [eo]; exact m⟩, eo]
      have hok : okQ no (meQ Q v) := okQ_meQ h2 hv (by omega)
      rw [em] at hok ⊢
      refine ⟨_, by rw [List.length_append]; rfl, ⟨?_, hok, fun j o' hj => ?_, fun o' p1 p2 => ⟨fun hm => ?_, fun hm => ?_⟩⟩, (frM_wr rfl (by decide)).trans (frM_wr rfl (by decide))⟩
      · rw [wr_nek (by decide), wr_nek (by decide)]; exact h1
      · by_cases c : j < Q.length
        · rw [List.getElem?_append_left c] at hj
          rw [wr_nei (by omega), wr_nek (by decide)]; exact h3 j o' hj
        · have ej : j = Q.length := by
            have := (List.getElem?_eq_some_iff.mp hj).1
            rw [List.length_append] at this
            have : [o].length = 1 := rfl
            omega
          subst ej
          rw [List.getElem?_append_right (Nat.le_refl _), Nat.sub_self] at hj
          injection hj with hj
          rw [wr_self, hj]
      · rw [wr_nek (by decide)]
        by_cases c : o' = o
        · rw [c, wr_self]
        · rw [wr_nei c]
          rcases List.mem_append.mp hm with g | g
          · exact (h4 o' p1 p2).1 g
          · exact absurd (List.mem_singleton.mp g) c
      · have c : o' ≠ o := fun e => hm (by rw [e]; exact List.mem_append_right _ List.mem_cons_self)
        rw [wr_nek (by decide), wr_nei c]
        exact (h4 o' p1 p2).2 (fun g => hm (List.mem_append_left _ g))
  · rw [c_t (by omega), e405_18]
    have em : meQ Q v = Q := by unfold meQ; rw [if_neg (fun h => q h.1)]
    rw [em]
    exact ⟨τ, rfl, ⟨h1, h2, h3, h4⟩, frM.refl⟩
/-- kinds of values -/
def VKd (X : dyD) (n : Nat) : Prop := (∀ k, k < n → (X.sv k).1 ≤ 2) ∧ ∀ o, 1 ≤ o → o ≤ X.no → ∀ w, w ∈ (X.hp o).co → w.1 ≤ 2
/-- regions are cleared for it -/
theorem clear_loop (d : Nat) (v2 v3 v4 v5 v6 v7 : Value) : ∀ (j r : Nat) (τ : tvS), r + j = nr → nr ≤ 2000 → rd τ 123 144 = i32 (nr : Int) → (∀ q, q < r → rd τ 222 q = 0 ∧ rd τ 223 q = 0 ∧ rd τ 224 q = 0) →
    ∃ τ' v1, rn L xs (d + 1) 404 12 [.ref 123, .int (i32 (r : Int)), v2, v3, v4, v5, v6, v7] [] τ = rn L xs (d + 1) 404 47 [.ref 123, v1, v2, v3, v4, v5, v6, v7] [] τ' ∧ (∀ q, q < nr → rd τ' 222 q = 0 ∧ rd τ' 223 q = 0 ∧ rd τ' 224 q = 0) ∧ frM [222, 223, 224] [] τ τ' := by
  intro j
  induction j with
  | zero =>
    intro r τ hj hn h1 h2
    refine ⟨τ, .int (i32 (r : Int)), ?_, fun q hq => h2 q (by omega), frM.refl⟩
    rw [e404_12, h1, c2_ge (by omega) (by omega) (by omega) (by omega), c_t (by omega)]
  | succ j ih =>
    intro r τ hj hn h1 h2
    obtain ⟨τ', v1, a1, a2, a3⟩ := ih (r + 1) (wr (wr (wr τ 222 r 0) 223 r 0) 224 r 0) (by omega) hn (by rw [wr_nek (by decide), wr_nek (by decide), wr_nek (by decide)]; exact h1) (fun q hq => by
      by_cases e : q = r
      · subst e
        rw [wr_nek (by decide), wr_nek (by decide), wr_self, wr_nek (by decide), wr_self, wr_self]
        exact ⟨rfl, rfl, rfl⟩
      · rw [wr_nei e, wr_nei e, wr_nei e, wr_nei e, wr_nei e, wr_nei e, wr_nei e, wr_nei e, wr_nei e]
        exact h2 q (by omega))
    refine ⟨τ', v1, ?_, a2, (((frM_wr rfl (by decide)).trans (frM_wr rfl (by decide))).trans (frM_wr rfl (by decide))).trans a3⟩
    rw [e404_12, h1, c2_ge (by omega) (by omega) (by omega) (by omega), c_f (by omega), c_in (by omega) (by omega) (by omega), c_in (by omega) (by omega) (by omega), c_in (by omega) (by omega) (by omega), i32_ixn (by omega), i32_up]
    exact a1
/-- the stack is met -/
theorem stack_loop (hK : VKd X n) (hV : ∀ k, k < n → VOK X.no (X.sv k)) (hno : X.no ≤ 30000) (hmt : mt < 2147483648) (x2 x3 : Int32) (d : Nat) : ∀ (j k : Nat) (τ : tvS) (v5 v6 v7 : Value), k + j = n → MSt n X.sv τ → MQu (stQ X.sv k) mt X.no τ →
    ∃ τ' v4 v5' v6' v7', rn L xs (d + 2) 404 56 [.ref 123, .int (i32 ((stQ X.sv k).length : Int)), .int x2, .int x3, .int (i32 (k : Int)), v5, v6, v7] [] τ = rn L xs (d + 2) 404 91 [.ref 123, .int (i32 ((stQ X.sv n).length : Int)), .int x2, .int x3, v4, v5', v6', v7'] [] τ' ∧ MQu (stQ X.sv n) mt X.no τ' ∧ frM [232, 233] [] τ τ' := by
  intro j
  induction j with
  | zero =>
    intro k τ v5 v6 v7 hj hS hQ
    have ek : k = n := by omega
    subst ek
    obtain ⟨s1, s2, s3⟩ := hS
    refine ⟨τ, .int (i32 (k : Int)), v5, v6, v7, ?_, hQ, frM.refl⟩
    rw [e404_56 (d + 1), s1, c2_ge (by omega) (by omega) (by omega) (by omega), c_t (by omega)]
  | succ j ih =>
    intro k τ v5 v6 v7 hj hS hQ
    have hS0 := hS
    obtain ⟨s1, s2, s3⟩ := hS
    obtain ⟨g1, g2⟩ := s3 k (by omega)
    obtain ⟨τ1, a1, a2, a3⟩ := meet_m (L := L) (xs := xs) hQ (hV k (by omega)) (hK.1 k (by omega)) hno hmt d
    obtain ⟨τ2, v4, v5', v6', v7', b1, b2, b3⟩ := ih (k + 1) τ1 (dj v5) (dj v6) (dj v7) (by omega) (hS0.fr a3 rfl rfl rfl) a2
    refine ⟨τ2, v4, v5', v6', v7', ?_, b2, a3.trans b3⟩
    rw [e404_56 (d + 1), s1, c2_ge (by omega) (by omega) (by omega) (by omega), c_f (by omega), c_in (by omega) (by omega) (by omega), c_in (by omega) (by omega) (by omega), i32_ixn (by omega), g1, g2, bI_ok a1, i32_up]
    exact b1
/-- what is in an object is met -/
theorem inner_loop {o a : Nat} (hno : X.no ≤ 30000) (hmt : mt < 2147483648) (ho : 1 ≤ o ∧ o ≤ X.no) (hV : ∀ w, w ∈ (X.hp o).co → VOK X.no w ∧ w.1 ≤ 2) (hlen : (X.hp o).co.length ≤ 100) (ha : a ≤ 200101) (x2 x3 : Int32) (x4 : Int32) (Q : List Nat) (d : Nat) : ∀ (j t : Nat) (τ : tvS) (v6 : Value), t + j = (X.hp o).co.length → MOi (X.hp o) o a τ → rd τ 231 o = i32 ((X.hp o).co.length : Int) → MQu (cmQ Q (X.hp o).co t) mt X.no τ →
    ∃ τ' v6', rn L xs (d + 2) 404 268 [.ref 123, .int (i32 ((cmQ Q (X.hp o).co t).length : Int)), .int x2, .int x3, .int x4, .int (i32 (o : Int)), v6, .int (i32 (t : Int))] [] τ = rn L xs (d + 2) 404 322 [.ref 123, .int (i32 ((cmQ Q (X.hp o).co (X.hp o).co.length).length : Int)), .int x2, .int x3, .int x4, .int (i32 (o : Int)), v6', .int (i32 ((X.hp o).co.length : Int))] [] τ' ∧ MQu (cmQ Q (X.hp o).co (X.hp o).co.length) mt X.no τ' ∧ frM [232, 233] [] τ τ' := by
  intro j
  induction j with
  | zero =>
    intro t τ v6 hj hO h231 hQ
    have et : t = (X.hp o).co.length := by omega
    subst et
    refine ⟨τ, v6, ?_, hQ, frM.refl⟩
    rw [e404_268 (d + 1), c_in (by omega) (by omega) (by omega), i32_ixn (by omega), h231, c2_ge (by omega) (by omega) (by omega) (by omega), c_t (by omega)]
  | succ j ih =>
    intro t τ v6 hj hO h231 hQ
    have hO0 := hO
    obtain ⟨o1, o2, o3⟩ := hO
    have lt : t < (X.hp o).co.length := by omega
    have hw : (X.hp o).co[t]? = some ((X.hp o).co[t]'lt) := List.getElem?_eq_getElem lt
    generalize (X.hp o).co[t]'lt = w at hw
    obtain ⟨g1, g2⟩ := o2 t w hw
    obtain ⟨w1, w2⟩ := hV w (List.mem_of_getElem? hw)
    obtain ⟨τ1, a1, a2, a3⟩ := meet_m (L := L) (xs := xs) hQ w1 w2 hno hmt d
    rw [← cmQ_succ hw] at a1 a2
    have hO1 : MOi (X.hp o) o a τ1 := by
      refine ⟨by rw [a3.rd rfl]; exact o1, fun t' v' hv' => by rw [a3.rd rfl, a3.rd rfl]; exact o2 t' v' hv', fun t' r s hk => by rw [a3.rd rfl]; exact o3 t' r s hk⟩
    obtain ⟨τ2, v6', b1, b2, b3⟩ := ih (t + 1) τ1 (jk (dj v6)) (by omega) hO1 (by rw [a3.rd rfl]; exact h231) a2
    refine ⟨τ2, v6', ?_, b2, a3.trans b3⟩
    rw [e404_268 (d + 1), c_in (by omega) (by omega) (by omega), i32_ixn (by omega), h231, c2_ge (by omega) (by omega) (by omega) (by omega), c_f (by omega), c_in (by omega) (by omega) (by omega), o1, i32_add, show ((a : Int) + (t : Int)) = ((a + t : Nat) : Int) by omega, c_in (by omega) (by omega) (by omega), c_in (by omega) (by omega) (by omega), c_in (by omega) (by omega) (by omega), i32_ixn (by omega), g1, g2, bI_ok a1, i32_up]
    exact b1
/-- room so far -/
def MAl (A : alD) (nr : Nat) (τ : tvS) : Prop := ∀ r, r < nr → rd τ 222 r = i32 ((A.1 r).1 : Int) ∧ rd τ 223 r = i32 ((A.1 r).2.1 : Int) ∧ rd τ 224 r = i32 ((A.1 r).2.2 : Int)
def alB (A : alD) (k wd : Nat) : Prop := ∀ r, (A.1 r).1 ≤ k ∧ (A.1 r).2.1 ≤ k ∧ (A.1 r).2.2 ≤ wd
theorem alB_step {A : alD} {k r sz : Nat} (h : alB A k wd) (hs : sz ≤ wd) : alB (pgA wd A r sz) (k + 1) wd := by
  intro q
  obtain ⟨h1, h2, h3⟩ := h r
  obtain ⟨g1, g2, g3⟩ := h q
  have key : ∀ (z : Nat × Nat × Nat), z.1 ≤ k + 1 → z.2.1 ≤ k + 1 → z.2.2 ≤ wd → (uq A.1 r z q).1 ≤ k + 1 ∧ (uq A.1 r z q).2.1 ≤ k + 1 ∧ (uq A.1 r z q).2.2 ≤ wd := fun z z1 z2 z3 => by
    by_cases e : q = r
    · subst e
      rw [uq_self]; exact ⟨z1, z2, z3⟩
    · rw [uq_ne e]; omega
  unfold pgA
  by_cases c : (A.1 r).2.1 = 0 ∨ wd < (A.1 r).2.2 + sz
  · rw [if_pos c]
    exact key ((A.1 r).1 + 1, (A.1 r).2.1 + 1, sz) (by show (A.1 r).1 + 1 ≤ _; omega) (by show (A.1 r).2.1 + 1 ≤ _; omega) hs
  · rw [if_neg c]
    exact key ((A.1 r).1 + 1, (A.1 r).2.1, (A.1 r).2.2 + sz) (by show (A.1 r).1 + 1 ≤ _; omega) (by show (A.1 r).2.1 ≤ _; omega) (by show (A.1 r).2.2 + sz ≤ wd; omega)
end MCOLLECT
