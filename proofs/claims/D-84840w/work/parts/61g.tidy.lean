/-! COLLECTIONS, MODEL: rows are made tidy -/
section TIDY
variable {L : Nat} {xs : Nat → Int32} {τ τ' τ0 : tvS} {n nr i fil mt : Nat} {X : dyD} {oa : Nat → Nat} {Q0 : List Nat}
/-- the stack is met -/
theorem tstack_loop (hK : VKd X n) (hV : ∀ k, k < n → VOK X.no (X.sv k)) (hno : X.no ≤ 30000) (hmt : mt < 2147483648) (d : Nat) : ∀ (j k : Nat) (τ : tvS) (v3 v4 v5 : Value), k + j = n → MSt n X.sv τ → MQu (stQ X.sv k) mt X.no τ →
    ∃ τ' v2 v3' v4' v5', rn L xs (d + 2) 408 14 [.ref 123, .int (i32 ((stQ X.sv k).length : Int)), .int (i32 (k : Int)), v3, v4, v5] [] τ = rn L xs (d + 2) 408 46 [.ref 123, .int (i32 ((stQ X.sv n).length : Int)), v2, v3', v4', v5'] [] τ' ∧ MQu (stQ X.sv n) mt X.no τ' ∧ frM [232, 233] [] τ τ' := by
  intro j
  induction j with
  | zero =>
    intro k τ v3 v4 v5 hj hS hQ
    have ek : k = n := by omega
    subst ek
    obtain ⟨s1, s2, s3⟩ := hS
    refine ⟨τ, .int (i32 (k : Int)), v3, v4, v5, ?_, hQ, frM.refl⟩
    rw [e408_14 (d + 1), s1, c2_ge (by omega) (by omega) (by omega) (by omega), c_t (by omega)]
  | succ j ih =>
    intro k τ v3 v4 v5 hj hS hQ
    have hS0 := hS
    obtain ⟨s1, s2, s3⟩ := hS
    obtain ⟨g1, g2⟩ := s3 k (by omega)
    obtain ⟨τ1, a1, a2, a3⟩ := meet_m (L := L) (xs := xs) hQ (hV k (by omega)) (hK.1 k (by omega)) hno hmt d
    obtain ⟨τ2, v2, v3', v4', v5', b1, b2, b3⟩ := ih (k + 1) τ1 (dj v3) (dj v4) (dj v5) (by omega) (hS0.fr a3 rfl rfl rfl) a2
    refine ⟨τ2, v2, v3', v4', v5', ?_, b2, a3.trans b3⟩
    rw [e408_14 (d + 1), s1, c2_ge (by omega) (by omega) (by omega) (by omega), c_f (by omega), c_in (by omega) (by omega) (by omega), c_in (by omega) (by omega) (by omega), i32_ixn (by omega), g1, g2, bI_ok a1, i32_up]
    exact b1
theorem tinner_loop {o a : Nat} (hno : X.no ≤ 30000) (hmt : mt < 2147483648) (ho : 1 ≤ o ∧ o ≤ X.no) (hV : ∀ w, w ∈ (X.hp o).co → VOK X.no w ∧ w.1 ≤ 2) (hlen : (X.hp o).co.length ≤ 100) (ha : a ≤ 200101) (x2 : Int32) (Q : List Nat) (d : Nat) : ∀ (j t : Nat) (τ : tvS) (v5 : Value), t + j = (X.hp o).co.length → MOi (X.hp o) o a τ → rd τ 231 o = i32 ((X.hp o).co.length : Int) → MQu (cmQ Q (X.hp o).co t) mt X.no τ →
    ∃ τ' v5', rn L xs (d + 2) 408 63 [.ref 123, .int (i32 ((cmQ Q (X.hp o).co t).length : Int)), .int x2, .int (i32 (o : Int)), .int (i32 (t : Int)), v5] [] τ = rn L xs (d + 2) 408 114 [.ref 123, .int (i32 ((cmQ Q (X.hp o).co (X.hp o).co.length).length : Int)), .int x2, .int (i32 (o : Int)), .int (i32 ((X.hp o).co.length : Int)), v5'] [] τ' ∧ MQu (cmQ Q (X.hp o).co (X.hp o).co.length) mt X.no τ' ∧ frM [232, 233] [] τ τ' := by
  intro j
  induction j with
  | zero =>
    intro t τ v5 hj hO h231 hQ
    have et : t = (X.hp o).co.length := by omega
    subst et
    refine ⟨τ, v5, ?_, hQ, frM.refl⟩
    rw [e408_63 (d + 1), c_in (by omega) (by omega) (by omega), i32_ixn (by omega), h231, c2_ge (by omega) (by omega) (by omega) (by omega), c_t (by omega)]
  | succ j ih =>
    intro t τ v5 hj hO h231 hQ
    obtain ⟨o1, o2, o3⟩ := hO
    have lt : t < (X.hp o).co.length := by omega
    have hw : (X.hp o).co[t]? = some ((X.hp o).co[t]'lt) := List.getElem?_eq_getElem lt
    generalize (X.hp o).co[t]'lt = w at hw
    obtain ⟨g1, g2⟩ := o2 t w hw
    obtain ⟨w1, w2⟩ := hV w (List.mem_of_getElem? hw)
    obtain ⟨τ1, a1, a2, a3⟩ := meet_m (L := L) (xs := xs) hQ w1 w2 hno hmt d
    rw [← cmQ_succ hw] at a1 a2
    have hO1 : MOi (X.hp o) o a τ1 := ⟨by rw [a3.rd rfl]; exact o1, fun t' v' hv' => by rw [a3.rd rfl, a3.rd rfl]; exact o2 t' v' hv', fun t' r s hk => by rw [a3.rd rfl]; exact o3 t' r s hk⟩
    obtain ⟨τ2, v5', b1, b2, b3⟩ := ih (t + 1) τ1 (dj v5) (by omega) hO1 (by rw [a3.rd rfl]; exact h231) a2
    refine ⟨τ2, v5', ?_, b2, a3.trans b3⟩
    rw [e408_63 (d + 1), c_in (by omega) (by omega) (by omega), i32_ixn (by omega), h231, c2_ge (by omega) (by omega) (by omega) (by omega), c_f (by omega), c_in (by omega) (by omega) (by omega), o1, i32_add, show ((a : Int) + (t : Int)) = ((a + t : Nat) : Int) by omega, c_in (by omega) (by omega) (by omega), c_in (by omega) (by omega) (by omega), c_in (by omega) (by omega) (by omega), i32_ixn (by omega), g1, g2, bI_ok a1, i32_up]
    exact b1
/-- one after the other -/
theorem tscan_m (hH : HOK X.hp X.no) (hO : MOb X n oa fil τ0) (hKd : VKd X n) (hLQ : ∀ k o, o ∈ bfQ X.hp Q0 k → RCO X n o) (hok : okQ X.no Q0) (hno : X.no ≤ 30000) (hmt : mt < 2147483648) {N : Nat} (hN1 : ∀ k, k < N → k < (bfQ X.hp Q0 k).length) (hN2 : (bfQ X.hp Q0 N).length = N) (d : Nat) :
    ∀ (j k : Nat) (τ : tvS) (v3 v4 v5 : Value), k + j = N → frM [232, 233] [] τ0 τ → MQu (bfQ X.hp Q0 k) mt X.no τ →
      ∃ τ' v2 v3' v4' v5', rn L xs (d + 2) 408 48 [.ref 123, .int (i32 ((bfQ X.hp Q0 k).length : Int)), .int (i32 (k : Int)), v3, v4, v5] [] τ = rn L xs (d + 2) 408 120 [.ref 123, .int (i32 (N : Int)), v2, v3', v4', v5'] [] τ' ∧ frM [232, 233] [] τ0 τ' ∧ MQu (bfQ X.hp Q0 N) mt X.no τ' := by
  have hokk := fun k => okQ_bfQ (k := k) (show X.no < 2147483648 by omega) hH hok
  have hNno : N ≤ X.no := by rw [← hN2]; exact (hokk N).len
  intro j
  induction j with
  | zero =>
    intro k τ v3 v4 v5 hj w hQ
    have ek : k = N := by omega
    subst ek
    refine ⟨τ, .int (i32 (k : Int)), v3, v4, v5, ?_, w, hQ⟩
    rw [hN2, e408_48 (d + 1), c2_ge (by omega) (by omega) (by omega) (by omega), c_t (by omega)]
  | succ j ih =>
    intro k τ v3 v4 v5 hj w hQ
    have lt := hN1 k (by omega)
    have hl := (hokk k).len
    have ho : (bfQ X.hp Q0 k)[k]? = some ((bfQ X.hp Q0 k)[k]'lt) := List.getElem?_eq_getElem lt
    generalize (bfQ X.hp Q0 k)[k]'lt = o at ho
    have hmem := List.mem_of_getElem? ho
    obtain ⟨o1, o2⟩ := (hokk k).2 o hmem
    have g3 := hLQ k o hmem
    have r233 := hQ.2.2.1 k o ho
    have hO' : MOb X n oa fil τ := hO.fr w ⟨rfl, rfl, rfl, rfl, rfl, rfl, rfl, rfl, rfl⟩ ⟨rfl, rfl⟩
    obtain ⟨q1, q2⟩ := hO'.2.2.2.2.1 o g3
    obtain ⟨_, q4, _⟩ := hO'.2.2.2.1 o o1 o2
    obtain ⟨τ3, v5'', c1, c2, c3⟩ := tinner_loop (L := L) (xs := xs) (X := X) (mt := mt) (o := o) (a := oa o) hno hmt ⟨o1, o2⟩ (fun w' hw' => ⟨(hH o o1 o2 w' hw').mono (by omega), hKd.2 o o1 o2 w' hw'⟩) (by omega) (by have := hO.2.2.1; omega) (i32 (k : Int)) (bfQ X.hp Q0 k) d (X.hp o).co.length 0 τ v5 (by omega) q1 (hO'.2.2.2.1 o o1 o2).1.2.2.2.2.2 hQ
    rw [← bfQ_succ ho] at c1 c2
    obtain ⟨τ4, v2, v3', v4', v5', e1, e2, e3⟩ := ih (k + 1) τ3 (.int (i32 (o : Int))) (.int (i32 ((X.hp o).co.length : Int))) v5'' (by omega) (w.trans c3) c2
    refine ⟨τ4, v2, v3', v4', v5', ?_, e2, e3⟩
    rw [e408_48 (d + 1), c2_ge (by omega) (by omega) (by omega) (by omega), c_f (by omega), c_in (by omega) (by omega) (by omega), i32_ixn (by omega), r233]
    refine Eq.trans c1 ?_
    rw [e408_114, i32_up]
    exact e1
/-- one object is moved -/
theorem move_loop {o a to : Nat} (hlen : (X.hp o).co.length + (X.hp o).kp.length ≤ 100) (ho : 1 ≤ o ∧ o ≤ 30000) (hta : to ≤ a) (ha : a + (X.hp o).co.length + (X.hp o).kp.length ≤ 200101) (v1 : Value) (d : Nat) : ∀ (j t : Nat) (τ : tvS), t + j = (X.hp o).co.length + (X.hp o).kp.length → rd τ 230 o = i32 (a : Int) →
    ∃ τ', rn L xs (d + 1) 408 182 [.ref 123, v1, .int (i32 (to : Int)), .int (i32 (o : Int)), .int (i32 (((X.hp o).co.length + (X.hp o).kp.length : Nat) : Int)), .int (i32 (t : Int))] [] τ = rn L xs (d + 1) 408 241 [.ref 123, v1, .int (i32 (to : Int)), .int (i32 (o : Int)), .int (i32 (((X.hp o).co.length + (X.hp o).kp.length : Nat) : Int)), .int (i32 (((X.hp o).co.length + (X.hp o).kp.length : Nat) : Int))] [] τ' ∧ (∀ k, t ≤ k → k < (X.hp o).co.length + (X.hp o).kp.length → rd τ' 234 (to + k) = rd τ 234 (a + k) ∧ rd τ' 235 (to + k) = rd τ 235 (a + k)) ∧ (∀ k, k < to + t ∨ to + (X.hp o).co.length + (X.hp o).kp.length ≤ k → rd τ' 234 k = rd τ 234 k ∧ rd τ' 235 k = rd τ 235 k) ∧ frM [234, 235] [] τ τ' := by
  intro j
  induction j with
  | zero =>
    intro t τ hj h230
    refine ⟨τ, ?_, fun k k1 k2 => by omega, fun _ _ => ⟨rfl, rfl⟩, frM.refl⟩
    have et : t = (X.hp o).co.length + (X.hp o).kp.length := by omega
    rw [et, e408_182, c2_ge (by omega) (by omega) (by omega) (by omega), c_t (by omega)]
  | succ j ih =>
    intro t τ hj h230
    have e1 : i32 (a : Int) + i32 (t : Int) = i32 ((a + t : Nat) : Int) := by rw [i32_add]; congr 1
    have e2 : i32 (to : Int) + i32 (t : Int) = i32 ((to + t : Nat) : Int) := by rw [i32_add]; congr 1
    obtain ⟨τ', a1, a2, a3, a4⟩ := ih (t + 1) (wr (wr τ 234 (to + t) (rd τ 234 (a + t))) 235 (to + t) (rd τ 235 (a + t))) (by omega) (by rw [wr_nek (by decide), wr_nek (by decide)]; exact h230)
    refine ⟨τ', ?_, fun k k1 k2 => ?_, fun k hk => ?_, ((frM_wr rfl (by decide)).trans (frM_wr rfl (by decide))).trans a4⟩
    · rw [e408_182, c2_ge (by omega) (by omega) (by omega) (by omega), c_f (by omega), c_in (by omega) (by omega) (by omega), i32_ixn (by omega), h230, e1, e2, c_in (by omega) (by omega) (by omega), c_in (by omega) (by omega) (by omega), c_in (by omega) (by omega) (by omega), c_in (by omega) (by omega) (by omega), c_in (by omega) (by omega) (by omega), i32_ixn (by omega), i32_ixn (by omega), i32_up]
      exact a1
    · by_cases q : k = t
      · subst q
        obtain ⟨g1, g2⟩ := a3 (to + k) (by omega)
        rw [g1, g2, wr_nek (by decide), wr_self, wr_self]
        exact ⟨rfl, rfl⟩
      · obtain ⟨g1, g2⟩ := a2 k (by omega) k2
        rw [g1, g2, wr_nek (by decide), wr_nei (by omega), wr_nei (by omega), wr_nek (by decide)]
        exact ⟨rfl, rfl⟩
    · obtain ⟨g1, g2⟩ := a3 k (by omega)
      rw [g1, g2, wr_nek (by decide), wr_nei (by omega), wr_nei (by omega), wr_nek (by decide)]
      exact ⟨rfl, rfl⟩
end TIDY
