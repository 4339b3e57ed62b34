/-! COLLECTIONS: what is met is what is reached; the model's rows are tidy -/
section MET
variable {X : dyD} {n nr : Nat}
theorem ROb.in {hp : Nat → obD} {no o : Nat} {v w : vaL} (h : ROb hp no v o) (hw : w ∈ (hp o).co) (hno : no < 2147483648) (hk : w.1 = 2) (hv : VOK no w) : ROb hp no v (oid w) := by
  obtain ⟨m, h⟩ := h
  obtain ⟨o', e, o1, o2⟩ := hv hk
  have eo := oid_of e (by omega)
  induction m generalizing v with
  | zero =>
    obtain ⟨e1, p1, p2⟩ := h
    refine ⟨1, o, w, e1, p1, p2, hw, ?_, ?_, ?_⟩
    · rw [eo]
      obtain ⟨a, b⟩ := w
      have hk : a = 2 := hk
      have e : b = i32 (o' : Int) := e
      rw [hk, e]
    · omega
    · omega
  | succ m ih =>
    obtain ⟨q, u, e1, p1, p2, hu, hr⟩ := h
    obtain ⟨m', hr'⟩ := ih hr
    exact ⟨m' + 1, q, u, e1, p1, p2, hu, hr'⟩
theorem met_reach (hH : HOK X.hp X.no) (hno : X.no < 2147483648) (hV : ∀ k, k < n → VOK X.no (X.sv k)) : ∀ k o, o ∈ bfQ X.hp (stQ X.sv n) k → RCO X n o := by
  intro k
  induction k with
  | zero =>
    intro o ho
    obtain ⟨j, j1, j2, j3⟩ := stQ_in n ho
    obtain ⟨o', e, o1, o2⟩ := hV j j1 j2
    have eo := oid_of e (by omega)
    refine ⟨j, j1, 0, ?_, by omega, by omega⟩
    have : X.sv j = ((X.sv j).1, (X.sv j).2) := rfl
    rw [this, j2, e, j3, eo]
  | succ k ih =>
    intro o ho
    cases e : (bfQ X.hp (stQ X.sv n) k)[k]? with
    | none =>
      have e' : bfQ X.hp (stQ X.sv n) (k + 1) = bfQ X.hp (stQ X.sv n) k := by
        show (match (bfQ X.hp (stQ X.sv n) k)[k]? with | some o => cmQ (bfQ X.hp (stQ X.sv n) k) (X.hp o).co (X.hp o).co.length | none => bfQ X.hp (stQ X.sv n) k) = _
        rw [e]
      rw [e'] at ho
      exact ih o ho
    | some q =>
      rw [bfQ_succ e] at ho
      rcases cmQ_in _ ho with g | ⟨w, w1, w2, w3⟩
      · exact ih o g
      · obtain ⟨j, j1, j2⟩ := ih q (List.mem_of_getElem? e)
        obtain ⟨b1, b2⟩ := j2.lt
        rw [w3]
        exact ⟨j, j1, j2.in w1 hno w2 ((hH q b1 b2 w w1).mono (by omega))⟩
theorem reach_met (hno : X.no < 2147483648) {N : Nat} (hN1 : ∀ k, k < N → k < (bfQ X.hp (stQ X.sv n) k).length) (hN2 : (bfQ X.hp (stQ X.sv n) N).length = N) {o : Nat} (h : RCO X n o) : o ∈ bfQ X.hp (stQ X.sv n) N := by
  have cl : ∀ q w, q ∈ bfQ X.hp (stQ X.sv n) N → w ∈ (X.hp q).co → w.1 = 2 → oid w ∈ bfQ X.hp (stQ X.sv n) N := fun q w hq hw h2 => by
    obtain ⟨j, j1, j2⟩ := List.mem_iff_getElem.mp hq
    have hj : j < N := by omega
    have lt := hN1 j hj
    have pre := bfQ_mono (hp := X.hp) (Q := stQ X.sv n) (N - j) j
    rw [show j + (N - j) = N by omega] at pre
    have ej : (bfQ X.hp (stQ X.sv n) j)[j]? = some q := by
      have e0 : (bfQ X.hp (stQ X.sv n) j)[j]? = some ((bfQ X.hp (stQ X.sv n) j)[j]'lt) := List.getElem?_eq_getElem lt
      have e1 := pre.at e0
      rw [List.getElem?_eq_getElem j1, j2] at e1
      rw [e0]; exact e1.symm
    obtain ⟨t, t1⟩ := List.mem_iff_getElem?.mp hw
    have hin : oid w ∈ bfQ X.hp (stQ X.sv n) (j + 1) := by
      rw [bfQ_succ ej]
      exact cmQ_all _ t (List.getElem?_eq_some_iff.mp t1).1 t1 h2
    have pre' := bfQ_mono (hp := X.hp) (Q := stQ X.sv n) (N - (j + 1)) (j + 1)
    rw [show j + 1 + (N - (j + 1)) = N by omega] at pre'
    exact pre'.mem hin
  have key : ∀ (m : Nat) (v : vaL), (v.1 = 2 → oid v ∈ bfQ X.hp (stQ X.sv n) N) → ROn X.hp X.no m v o → o ∈ bfQ X.hp (stQ X.sv n) N := by
    intro m
    induction m with
    | zero =>
      intro v hv hr
      obtain ⟨e, o1, o2⟩ := hr
      have := hv (by rw [e])
      rw [oid_of (v := v) (o := o) (by rw [e]) (by omega)] at this
      exact this
    | succ m ih =>
      intro v hv hr
      obtain ⟨q, w, e, o1, o2, hw, hr⟩ := hr
      have hq := hv (by rw [e])
      rw [oid_of (v := v) (o := q) (by rw [e]) (by omega)] at hq
      exact ih w (fun h2 => cl q w hq hw h2) hr
  obtain ⟨k, k1, m, hr⟩ := h
  refine key m _ (fun h2 => ?_) hr
  have h0 := bfQ_mono (hp := X.hp) (Q := stQ X.sv n) N 0
  rw [Nat.zero_add] at h0
  refine h0.mem ?_
  have h1 := stQ_mono (sv := X.sv) (n - (k + 1)) (k + 1)
  rw [show k + 1 + (n - (k + 1)) = n by omega] at h1
  exact h1.mem (meQ_mem h2)
end MET
section TIDY2
variable {L : Nat} {xs : Nat → Int32} {τ τ' τ0 : tvS} {n nr i fil mt : Nat} {X : dyD} {oa : Nat → Nat}
/-- words of what is reached, up to an object -/
noncomputable def tdS (X : dyD) (n : Nat) : Nat → Nat
  | 0 => 0
  | o + 1 => tdS X n o + @ite _ (1 ≤ o ∧ RCO X n o) (Classical.propDecidable _) ((X.hp o).co.length + (X.hp o).kp.length) 0
theorem tdS_y {o : Nat} (h1 : 1 ≤ o) (h : RCO X n o) : tdS X n (o + 1) = tdS X n o + ((X.hp o).co.length + (X.hp o).kp.length) := by
  show tdS X n o + _ = _
  rw [if_pos ⟨h1, h⟩]
theorem tdS_n {o : Nat} (h : ¬ RCO X n o) : tdS X n (o + 1) = tdS X n o := by
  show tdS X n o + _ = _
  rw [if_neg (fun q => h q.2)]; rfl
theorem tdS_mono : ∀ (j o : Nat), tdS X n o ≤ tdS X n (o + j) := by
  intro j
  induction j with
  | zero => intro o; exact Nat.le_refl _
  | succ j ih =>
    intro o
    refine Nat.le_trans (ih o) ?_
    show _ ≤ tdS X n (o + j) + _
    omega
theorem tidy_loop {Q : List Nat} (hno : X.no ≤ 30000) (hmt : mt < 2147483648) (hQR : ∀ o, o ∈ Q ↔ RCO X n o) (h200 : ∀ o, 1 ≤ o → o ≤ X.no → ((X.hp o).kd = 3 → rd τ0 200 (X.hp o).pt = i32 ((X.hp o).kp.length : Int)) ∧ ((X.hp o).kd ≠ 3 → (X.hp o).kp = []) ∧ (X.hp o).kd ≤ 3) (hO : MOb X n oa fil τ0) (d : Nat) :
    ∀ (j o : Nat) (τ : tvS) (v1 v4 v5 : Value), o + j = X.no + 1 → 1 ≤ o → frM [230, 234, 235] [] τ0 τ → MQu Q mt X.no τ → (∀ o', RCO X n o' → o' < o → MOi (X.hp o') o' (tdS X n o') τ) → (∀ o', RCO X n o' → o ≤ o' → MOi (X.hp o') o' (oa o') τ ∧ tdS X n o ≤ oa o') →
      ∃ τ' v1' v3' v4' v5', rn L xs (d + 1) 408 124 [.ref 123, v1, .int (i32 (tdS X n o : Int)), .int (i32 (o : Int)), v4, v5] [] τ = rn L xs (d + 1) 408 259 [.ref 123, v1', .int (i32 (tdS X n (X.no + 1) : Int)), v3', v4', v5'] [] τ' ∧ frM [230, 234, 235] [] τ0 τ' ∧ MQu Q mt X.no τ' ∧ ∀ o', RCO X n o' → MOi (X.hp o') o' (tdS X n o') τ' := by
  intro j
  induction j with
  | zero =>
    intro o τ v1 v4 v5 hj h1 w hQ hA hB
    have eo : o = X.no + 1 := by omega
    subst eo
    refine ⟨τ, v1, .int (i32 ((X.no + 1 : Nat) : Int)), v4, v5, ?_, w, hQ, fun o' ho' => hA o' ho' ?_⟩
    · rw [e408_124, w.2 124 rfl, hO.1, c2_gt (by omega) (by omega) (by omega) (by omega), c_t (by omega)]
    · obtain ⟨k, k1, k2⟩ := ho'
      have := k2.lt
      omega
  | succ j ih =>
    intro o τ v1 v4 v5 hj h1 w hQ hA hB
    have ho2 : o ≤ X.no := by omega
    obtain ⟨q1, q2⟩ := hQ.2.2.2 o h1 ho2
    have nx : ∀ o', RCO X n o' → o' ≠ o → o ≤ o' → o + 1 ≤ o' := fun o' _ h h' => by omega
    by_cases m : o ∈ Q
    · have hr := (hQR o).mp m
      have e232 := q1 m
      obtain ⟨c1, c2, c3, c4, c5, c6⟩ := (hO.2.2.2.1 o h1 ho2).1
      obtain ⟨_, l100, _, lpt⟩ := hO.2.2.2.1 o h1 ho2
      obtain ⟨k3, kn, kk⟩ := h200 o h1 ho2
      have hoa := (hO.2.2.2.2.1 o hr).2
      have hfil := hO.2.2.1
      obtain ⟨⟨m1, m2, m3⟩, m4⟩ := hB o hr (Nat.le_refl _)
      have pre : ∀ v1 : Value, rn L xs (d + 1) 408 124 [.ref 123, v1, .int (i32 (tdS X n o : Int)), .int (i32 (o : Int)), v4, v5] [] τ = rn L xs (d + 1) 408 182 [.ref 123, v1, .int (i32 (tdS X n o : Int)), .int (i32 (o : Int)), .int (i32 (((X.hp o).co.length + (X.hp o).kp.length : Nat) : Int)), .int (i32 ((0 : Nat) : Int))] [] τ := fun v1 => by
        rw [e408_124, w.2 124 rfl, hO.1, c2_gt (by omega) (by omega) (by omega) (by omega), c_f (by omega), c_in (by omega) (by omega) (by omega), i32_ixn (by omega), e232, hQ.1, show pv_c2 .ne (i32 (mt : Int)) (i32 (mt : Int)) = false by rw [c2_ne (by omega) (by omega) (by omega) (by omega)]; exact decide_eq_false (fun h => h rfl), cond_false, c_in (by omega) (by omega) (by omega), c_in (by omega) (by omega) (by omega), w.rd (j := 225) rfl, c1, show (3 : Int32) = i32 ((3 : Nat) : Int) from rfl, c2_ne (by omega) (by omega) (by omega) (by omega), w.rd (j := 231) rfl, c6]
        by_cases k : (X.hp o).kd = 3
        · rw [c_f (by omega), c_in (by omega) (by omega) (by omega), w.rd (j := 229) rfl, c5, c_in (by omega) (by omega) (by omega), i32_ixn (by omega), w.rd (j := 200) rfl, k3 k, e408_176, i32_add]
          rfl
        · rw [c_t (by omega), e408_175, e408_176, kn k, show (0 : Int32) = i32 ((0 : Nat) : Int) from rfl, i32_add]
          rfl
      obtain ⟨τ1, a1, a2, a3, a4⟩ := move_loop (L := L) (xs := xs) (X := X) (o := o) (a := oa o) (to := tdS X n o) l100 ⟨h1, by omega⟩ m4 (by omega) v1 d ((X.hp o).co.length + (X.hp o).kp.length) 0 τ (by omega) m1
      have w1 : frM [230, 234, 235] [] τ0 (wr τ1 230 o (i32 (tdS X n o : Int))) := (w.trans (a4.sub rfl rfl)).trans (frM_wr rfl (by decide))
      have ww : frM [230, 234, 235] [] τ (wr τ1 230 o (i32 (tdS X n o : Int))) := (a4.sub rfl rfl).trans (frM_wr rfl (by decide))
      have ety := tdS_y (X := X) (n := n) h1 hr
      have nt : ∀ q k, q = 234 ∨ q = 235 → rd (wr τ1 230 o (i32 (tdS X n o : Int))) q k = rd τ1 q k := fun q k hq => wr_nek (by omega)
      have far : ∀ o' a, MOi (X.hp o') o' a τ → o' ≠ o → (∀ k, a ≤ k → k < a + ((X.hp o').co.length + (X.hp o').kp.length) → k < tdS X n o ∨ tdS X n o + (X.hp o).co.length + (X.hp o).kp.length ≤ k) → MOi (X.hp o') o' a (wr τ1 230 o (i32 (tdS X n o : Int))) := fun o' a ⟨g1, g2, g3⟩ hne hk => by
        refine ⟨by rw [wr_nei hne, a4.rd rfl]; exact g1, fun t v hv => ?_, fun t r s hs => ?_⟩
        · have ht := (List.getElem?_eq_some_iff.mp hv).1
          obtain ⟨f1, f2⟩ := a3 (a + t) (hk (a + t) (by omega) (by omega))
          rw [nt 234 _ (by omega), nt 235 _ (by omega), f1, f2]; exact g2 t v hv
        · have ht := (List.getElem?_eq_some_iff.mp hs).1
          obtain ⟨f1, f2⟩ := a3 (a + (X.hp o').co.length + t) (hk (a + (X.hp o').co.length + t) (by omega) (by omega))
          rw [nt 235 _ (by omega), f2]; exact g3 t r s hs
      obtain ⟨τ2, v1', v3', v4', v5', b1, b2, b3, b4⟩ := ih (o + 1) (wr τ1 230 o (i32 (tdS X n o : Int))) (jk v1) (.int (i32 (((X.hp o).co.length + (X.hp o).kp.length : Nat) : Int))) (.int (i32 (((X.hp o).co.length + (X.hp o).kp.length : Nat) : Int))) (by omega) (by omega) w1 (hQ.fr ww rfl rfl rfl) (fun o' ho' hlt => by
        by_cases e : o' = o
        · subst e
          refine ⟨by rw [wr_self], fun t v hv => ?_, fun t r s hs => ?_⟩
          · have ht := (List.getElem?_eq_some_iff.mp hv).1
            obtain ⟨f1, f2⟩ := a2 t (Nat.zero_le _) (by omega)
            rw [nt 234 _ (by omega), nt 235 _ (by omega), f1, f2]; exact m2 t v hv
          · have ht := (List.getElem?_eq_some_iff.mp hs).1
            obtain ⟨f1, f2⟩ := a2 ((X.hp o').co.length + t) (Nat.zero_le _) (by omega)
            rw [nt 235 _ (by omega), Nat.add_assoc, f2, ← Nat.add_assoc]; exact m3 t r s hs
        · refine far o' _ (hA o' ho' (by omega)) e (fun k k1 k2 => ?_)
          have o'1 : 1 ≤ o' := by obtain ⟨k, k1, k2⟩ := ho'; exact k2.lt.1
          have e1 := tdS_y (X := X) (n := n) o'1 ho'
          have e2 := tdS_mono (X := X) (n := n) (o - (o' + 1)) (o' + 1)
          rw [show o' + 1 + (o - (o' + 1)) = o by omega] at e2
          omega) (fun o' ho' hle => by
        obtain ⟨g1, g2⟩ := hB o' ho' (by omega)
        have hord := hO.2.2.2.2.2 o o' hr ho' (by omega)
        exact ⟨far o' _ g1 (by omega) (fun k k1 k2 => by omega), by rw [ety]; omega⟩)
      refine ⟨τ2, v1', v3', v4', v5', ?_, b2, b3, b4⟩
      rw [pre v1]
      refine Eq.trans a1 ?_
      rw [e408_241, c_in (by omega) (by omega) (by omega), i32_ixn (by omega), i32_add, e408_253, i32_up, show ((tdS X n o : Int) + (((X.hp o).co.length + (X.hp o).kp.length : Nat) : Int)) = ((tdS X n o + ((X.hp o).co.length + (X.hp o).kp.length) : Nat) : Int) by omega, ← ety]
      exact b1
    · have hr : ¬ RCO X n o := fun h => m ((hQR o).mpr h)
      obtain ⟨z, z1, z2⟩ := q2 m
      have etn := tdS_n (X := X) (n := n) hr
      obtain ⟨τ2, v1', v3', v4', v5', b1, b2, b3, b4⟩ := ih (o + 1) τ v1 v4 v5 (by omega) (by omega) w hQ (fun o' ho' hlt => by
        by_cases e : o' = o
        · exact absurd (e ▸ ho') hr
        · exact hA o' ho' (by omega)) (fun o' ho' hle => by rw [etn]; exact hB o' ho' (by omega))
      refine ⟨τ2, v1', v3', v4', v5', ?_, b2, b3, b4⟩
      rw [e408_124, w.2 124 rfl, hO.1, c2_gt (by omega) (by omega) (by omega) (by omega), c_f (by omega), c_in (by omega) (by omega) (by omega), i32_ixn (by omega), z1, hQ.1, c2_ne (by omega) (by omega) (by omega) (by omega), c_t (by omega), e408_253, i32_up, ← etn]
      exact b1
end TIDY2
