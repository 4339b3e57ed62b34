/-! READING: one more part -/
section NODE
variable {L : Nat} {xs : Nat → Int32} {K1 K2 m : Nat} {μ : Nat → Nat} {g fc : Nat} {sc : List Nat} {fs fs' : List (Nat × Nat × List Nat)} {F D H n A P r r0 : Nat} {σ τ σ' τ' σ1 τ1 : tvS}
theorem scC_lo {j i : Nat} (h : j < 62) : scC j i = false := by
  have e1 : Nat.beq j 63 = false := by cases e : Nat.beq j 63 with | false => rfl | true => have := Nat.eq_of_beq_eq_true e; omega
  have e2 : Nat.beq j 62 = false := by cases e : Nat.beq j 62 with | false => rfl | true => have := Nat.eq_of_beq_eq_true e; omega
  unfold scC; rw [e1, e2]; rfl
theorem scM_hi {j i : Nat} (h : 138 ≤ j) : scM j i = false := by
  have e1 : rgN 132 138 j = false := by unfold rgN; rw [show Nat.blt j 138 = false from by cases e : Nat.blt j 138 with | false => rfl | true => have := Nat.blt_eq.mp e; omega, Bool.and_false]
  have e2 : Nat.beq j 123 = false := by cases e : Nat.beq j 123 with | false => rfl | true => have := Nat.eq_of_beq_eq_true e; omega
  unfold scM; rw [e1, e2]; rfl
theorem scM_lo {j i : Nat} (h : 124 ≤ j) (h2 : j < 132) : scM j i = false := by
  have e1 : rgN 132 138 j = false := by unfold rgN; rw [show Nat.ble 132 j = false from by cases e : Nat.ble 132 j with | false => rfl | true => have := Nat.le_of_ble_eq_true e; omega, Bool.false_and]
  have e2 : Nat.beq j 123 = false := by cases e : Nat.beq j 123 with | false => rfl | true => have := Nat.eq_of_beq_eq_true e; omega
  unfold scM; rw [e1, e2]; rfl
theorem CORE.node {κ a b st : Nat} {kids : List Nat} (h : CORE K1 K2 m μ g fc sc fs F A P (r0 + kids.length) σ τ) (hP : P < 4101) (hF : F ≤ 4101) (hAm : A ≤ m)
    (hC : ∀ j i, ¬ (i = P ∧ 16 ≤ j ∧ j ≤ 28) → ¬ (i ∈ kids ∧ 23 ≤ j ∧ j ≤ 25) → ¬ ((j = 35 ∨ j = 36) ∧ i ∈ fs.map Prod.fst) → ¬ (j = 15 ∧ (i = 13 ∨ i = 29)) → ¬ (37 ≤ j ∧ j ≤ 41) → ¬ (j = 62 ∧ i = 6) → scC j i = false → rd σ' j i = rd σ j i)
    (hM : ∀ j i, ¬ (i = P ∧ 151 ≤ j ∧ j ≤ 163) → ¬ (i ∈ kids ∧ j = 159) → ¬ (j = 123 ∧ (i = 46 ∨ i = 60)) → ¬ (j = 164 ∧ ix (rd τ 123 60) ≤ i) → scM j i = false → rd τ' j i = rd τ j i)
    (hl : σ'.2.1 = σ.2.1) (hR : roomC K1 K2 σ') (hcap : ∀ C cp, CAPI F C P cp sc fs σ → ∃ C' cp', CAPI F C' (P + 1) cp' sc fs' σ')
    (hP1 : rd σ' 15 13 = i32 (P + 1 : Nat)) (hP2 : rd τ' 123 46 = i32 (P + 1 : Nat)) (hq : ∀ q : Nat, rd τ 123 60 = i32 q → q + (r0 + kids.length) ≤ P → ∃ q' : Nat, rd τ' 123 60 = i32 q' ∧ q ≤ q' ∧ q' + (r0 + 1) ≤ P + 1)
    (hk : contK σ st kids P) (hkn : ∀ c, c ∈ kids → rd σ 24 c = i32 (-1))
    (n1 : κ ≤ 20) (n2 : rd σ' 16 P = i32 κ) (n3 : rd τ' 151 P = i32 (mKd κ)) (n4 : rd σ' 17 P = i32 a) (n5 : rd σ' 18 P = i32 b) (n6 : rd τ' 152 P = i32 a) (n7 : rd τ' 153 P = i32 b) (n8 : a ≤ b) (n9 : b < A) (n10 : rd σ' 26 P = i32 st) (n11 : rd τ' 161 P = i32 st) (n12 : rd σ' 28 P = rd σ 62 5) (n13 : rd τ' 160 P = rd τ 123 43) (n14 : rd τ' 159 P = rd σ' 24 P)
    (n15 : ∀ w c : Nat, kids[w]? = some c → rd σ' 24 c = i32 P ∧ rd σ' 25 c = i32 (rol κ w) ∧ rd τ' 159 c = i32 P) (n16 : whtR κ σ' τ' P kids)
    (n17 : ∀ w c : Nat, kids[w]? = some c → chC σ (scl κ w σ' P ++ sc) (rd σ 28 c)) (n18 : (κ = 2 → ix (rd σ' 27 P) ∈ sc) ∧ nnR κ σ' P) (n19 : ownR κ σ' P sc) (n20 : calR κ σ' P kids) (n21 : spC κ σ' P st a b) : CORE K1 K2 m μ g fc sc fs' F A (P + 1) (r0 + 1) σ' τ' := by
  obtain ⟨V, S, C, q, cp, a1, a2, ⟨a3, a4⟩, ⟨a5, a6, a7, a8⟩, a9, ⟨a10, a11⟩, a12, a13, a14, a15, a16, a17, a18⟩ := h
  have hrl : ∀ j i, rl σ' j i = rl σ j i := fun j i => by unfold rl; rw [hl]
  have hc : ∀ j, j < 16 ∨ 28 < j ∧ j < 35 ∨ 41 < j ∧ j < 62 → j ≠ 15 → ∀ i, rd σ' j i = rd σ j i := fun j h1 h2 i => hC j i (by omega) (by omega) (by omega) (by omega) (by omega) (by omega) (scC_lo (by omega))
  have hc5 : ∀ i, i ≠ 13 → i ≠ 29 → rd σ' 15 i = rd σ 15 i := fun i h1 h2 => hC 15 i (by omega) (by omega) (by omega) (by omega) (by omega) (by omega) rfl
  have hm : ∀ j, 124 ≤ j ∧ j < 132 ∨ 138 ≤ j ∧ j < 151 → ∀ i, rd τ' j i = rd τ j i := fun j h1 i => hM j i (by omega) (by omega) (by omega) (by omega) (by
    rcases h1 with h | h
    · exact scM_lo h.1 h.2
    · exact scM_hi h.1)
  have hm3 : ∀ i, i ≠ 46 → i ≠ 60 → scM 123 i = false → rd τ' 123 i = rd τ 123 i := fun i h1 h2 h3 => hM 123 i (by omega) (by omega) (by omega) (by omega) h3
  obtain ⟨l1, l2⟩ := a1.congr (σ' := σ') (τ' := τ') (fun j hj i => by have := inL3 hj; exact hc j (by omega) (by omega) i) (fun i => hrl _ _) (fun j hj i => by have := inL3 hj; exact hm j (by omega) i)
  have hqx : ix (rd τ 123 60) = q := by
    have := a1.2.2.2.2.2.2.1
    rw [a10, i32_ixn (by omega)]
  obtain ⟨q', e1, e2, e3⟩ := hq q a10 a11
  have hqx' : ix (rd τ' 123 60) = q' := by rw [e1, i32_ixn (by omega)]
  obtain ⟨C', cp', e4⟩ := hcap C cp a18
  refine ⟨V, S, C', q', cp', l1, l2.trans a2, ⟨hP1, hP2⟩, ⟨(hc5 19 (by omega) (by omega)).trans a5, (hm3 36 (by omega) (by omega) rfl).trans a6, a7, a8⟩, (hc5 26 (by omega) (by omega)).trans a9, ⟨e1, e3⟩, (hm3 5 (by omega) (by omega) rfl).trans a12,
    a13.congr l2 (hC 62 7 (by omega) (by omega) (by omega) (by omega) (by omega) (by omega) rfl) (hc5 38 (by omega) (by omega)) (hc 44 (by omega) (by omega)) (hrl _) (hrl _) (fun i hi => by rcases hi with e | e <;> rw [e] <;> exact hm3 _ (by omega) (by omega) rfl) (fun j hj i => by have := inL3 hj; exact hm j (by omega) i),
    a14.congr l2 (fun v hv => ⟨hc 30 (by omega) (by omega) v, hrl _ _, hm 146 (by omega) v, hm 145 (by omega) v⟩) (hrl _) (hm 129 (by omega)),
    a15.congr (hC 62 5 (by omega) (by omega) (by omega) (by omega) (by omega) (by omega) rfl) (fun v hv => ⟨hc 32 (by omega) (by omega) v, hc 33 (by omega) (by omega) v, hrl _ _, hm 147 (by omega) v⟩) (fun i hi => by rcases hi with e | e | e <;> rw [e] <;> exact hm3 _ (by omega) (by omega) rfl) (fun j hj i _ => hm j (by omega) i) (fun i _ => hm 148 (by omega) i),
    fun p hp => ?_, hR, e4⟩
  have hVx : ix (rd σ 15 19) = V := by rw [a5, i32_ixn (by have := a1.1; omega)]
  have e19 := hc5 19 (by omega) (by omega)
  have hVm : ∀ v, v ∈ sc → v < ix (rd σ' 15 19) := fun v hv => by rw [e19, hVx]; exact a15.2.2.2.2.2.1 v hv
  by_cases hpP : p = P
  · subst hpP
    refine ⟨κ, st, kids, n1, n2, n3, n6.trans n4.symm, n7.trans n5.symm, ⟨a, b, n4, n5, n8, n9, n21⟩, n10, n11, hk.congr _ _ _ (fun i hi => hC 26 i (by omega) (by omega) (by omega) (by omega) (by omega) (by omega) rfl), n14, ⟨sc, ⟨?_, hVm⟩, ?_, fun w c hw => ?_, n18, n19⟩, fun w c hw => ⟨(n15 w c hw).1, (n15 w c hw).2.1⟩, n16, n20⟩
    · rw [n12]; exact a15.1.congr _ _ (fun v _ => ⟨hc 33 (by omega) (by omega) v, hc 32 (by omega) (by omega) v⟩)
    · rw [n13]; exact a15.2.1.congr (Nat.le_refl _) _ _ (fun s _ => ⟨hm 149 (by omega) s, hm 150 (by omega) s⟩)
    · have hcp := contK.mem kids st p hk c (List.mem_of_getElem? hw)
      rw [hC 28 c (by omega) (by omega) (by omega) (by omega) (by omega) (by omega) rfl]
      refine ⟨(n17 w c hw).congr _ _ (fun v _ => ⟨hc 33 (by omega) (by omega) v, hc 32 (by omega) (by omega) v⟩), fun v hv => ?_⟩
      rcases List.mem_append.mp hv with h | h
      · unfold scl at h
        by_cases q1 : κ = 17
        · rw [if_pos q1] at h; rw [List.mem_singleton.mp h]; exact (n19.2.2 q1).1
        · rw [if_neg q1] at h
          by_cases q2 : κ = 19 ∧ w = 1
          · rw [if_pos q2] at h; rw [List.mem_singleton.mp h]; exact (n19.1 q2.1).1
          · rw [if_neg q2] at h
            by_cases q3 : κ = 20 ∧ w = 2
            · rw [if_pos q3] at h
              have := (n19.2.1 q3.1).1
              rcases List.mem_cons.mp h with h | h
              · omega
              · have := List.mem_singleton.mp h
                omega
            · rw [if_neg q3] at h; cases h
      · exact hVm v h
  · have hp : p < P := by omega
    refine (a16 p hp).stay (by omega) (fun j i h1 h2 h3 h4 h5 h6 => hC j i (by omega) (by omega) (by omega) (by omega) (by omega) (by omega) (scC_lo (by omega))) (fun j i h1 h2 h3 => hC j i (by omega) (fun q => h2 (hkn i q.1)) (by omega) (by omega) (by omega) (by omega) (scC_lo (by omega))) (fun e => ?_) (fun hk17 f hf h27 h35 => ?_)
      (fun l x hx => hx.congr (by rw [e19]; exact Nat.le_refl _) (fun v _ => ⟨hc 33 (by omega) (by omega) v, hc 32 (by omega) (by omega) v⟩)) (fun v _ => hc 31 (by omega) (by omega) v) (fun _ f _ _ => ⟨hc 44 (by omega) (by omega) f, hc 46 (by omega) (by omega) f⟩) (by rw [hc5 38 (by omega) (by omega)]; exact Nat.le_refl _) (by rw [e19]; exact Nat.le_refl _) (fun l x hx => hx.congr (Nat.le_refl _) _ _ (fun s _ => ⟨hm 149 (by omega) s, hm 150 (by omega) s⟩)) (fun j h1 h2 h3 => hM j p (by omega) (by omega) (by omega) (by omega) (scM_hi (by omega))) (fun i hi => hM 164 i (by omega) (by omega) (by omega) (by omega) rfl) (by omega)
    · by_cases hpk : p ∈ kids
      · obtain ⟨w, hw⟩ := List.getElem?_of_mem hpk
        obtain ⟨g1, g2, g3⟩ := n15 w p hw
        rw [g1, g3]
      · rw [hM 159 p (by omega) (fun q => hpk q.1) (by omega) (by omega) rfl, hC 24 p (by omega) (fun q => hpk q.1) (by omega) (by omega) (by omega) (by omega) rfl]
        exact e
    · obtain ⟨f', s, l, c1, c2, c3, _⟩ := a18.2.2.2.2.2.2.2.1 p hp hk17
      have : f = f' := by
        have := (i32_inj (by omega) (by omega) (by omega) (by omega)).mp (h27.symm.trans c1)
        omega
      subst this
      exact ⟨hC 35 f (by omega) (by omega) (fun q => c3 q.2) (by omega) (by omega) (by omega) rfl, hC 36 f (by omega) (by omega) (fun q => c3 q.2) (by omega) (by omega) (by omega) rfl⟩
theorem CAPI.node {κ C : Nat} {cp : Nat → List (Nat × Nat)} (h : CAPI F C P cp sc fs σ) (hk2 : κ ≠ 2) (hk17 : κ ≠ 17) (hκ : κ ≤ 20) (n2 : rd σ' 16 P = i32 κ)
    (hC : ∀ j i, ¬ (i = P ∧ 16 ≤ j ∧ j ≤ 28) → ¬ (23 ≤ j ∧ j ≤ 25) → ¬ (j = 15 ∧ i = 13) → scC j i = false → rd σ' j i = rd σ j i) (hl : σ'.2 = σ.2) : CAPI F C (P + 1) cp sc fs σ' := by
  obtain ⟨b1, b2, b3, b4, b5, b6, b7, b8, b9⟩ := h
  have hn : ∀ x : Nat, x ≤ 20 → κ ≠ x → rd σ' 16 P ≠ i32 x := fun x hx hne e => hne (by
    have := (i32_inj (by omega) (by omega) (by omega) (by omega)).mp (n2.symm.trans e)
    omega)
  have hc : ∀ j i, i < P → ¬ (23 ≤ j ∧ j ≤ 25) → 16 ≤ j → j ≤ 28 → rd σ' j i = rd σ j i := fun j i h1 h2 h3 h4 => hC j i (by omega) h2 (by omega) (scC_lo (by omega))
  have hw : ∀ p0 k l, p0 + k ≤ P → capW σ' p0 k l = capW σ p0 k l := fun p0 k l hk => capW.congr _ (fun i hi => ⟨hc 16 i (by omega) (by omega) (by omega) (by omega), hc 27 i (by omega) (by omega) (by omega) (by omega)⟩)
  have hch : ∀ l x, chC σ l x → chC σ' l x := fun l x hx => hx.congr _ _ (fun v _ => ⟨hC 33 v (by omega) (by omega) (by omega) rfl, hC 32 v (by omega) (by omega) (by omega) rfl⟩)
  refine ⟨b1.congr (fun j _ _ i => hC j i (by omega) (by omega) (by omega) (scC_lo (by omega))) (hC 15 29 (by omega) (by omega) (by omega) rfl) (by unfold ln; rw [hl]), ?_, b3, b4, fun e he => ?_, fun v hv => by rw [hC 31 v (by omega) (by omega) (by omega) rfl]; exact b6 v hv, b7, fun p hp hk => ?_, fun f hf => ?_⟩
  · rw [hC 62 6 (by omega) (by omega) (by omega) rfl]; exact b2.congr _ _ (fun e _ => hC 34 e.1 (by omega) (by omega) (by omega) rfl)
  · obtain ⟨c1, c2, c3, c4⟩ := b5 e he
    refine ⟨c1, by omega, c3, ?_⟩
    rw [c4, show P + 1 - e.2.1 = (P - e.2.1) + 1 by omega]
    show _ = if rd σ' 16 (e.2.1 + (P - e.2.1)) = i32 2 ∧ _ then _ else _
    rw [show e.2.1 + (P - e.2.1) = P by omega, if_neg (fun q => hn 2 (by omega) hk2 q.1), hw _ _ _ (by omega)]
  · have hp' : p < P := by
      apply Classical.byContradiction
      intro q
      rw [show p = P by omega] at hk
      exact hn 17 (by omega) hk17 hk
    rw [hc 16 p hp' (by omega) (by omega) (by omega)] at hk
    obtain ⟨f, s, l, c1, c2, c3, c4, c5, c6, c7⟩ := b8 p hp' hk
    exact ⟨f, s, l, by rw [hc 27 p hp' (by omega) (by omega) (by omega)]; exact c1, c2, c3, by rw [hc 26 p hp' (by omega) (by omega) (by omega)]; exact c4, c5, by rw [hc 28 p hp' (by omega) (by omega) (by omega)]; exact hch _ _ c6, by rw [c7, hw _ _ _ (by omega)]⟩
  · rcases b9 f hf with e | ⟨p, c1, c2, c3, c4⟩
    · exact Or.inl e
    · exact Or.inr ⟨p, by omega, by rw [hc 16 p c1 (by omega) (by omega) (by omega)]; exact c2, by rw [hc 27 p c1 (by omega) (by omega) (by omega)]; exact c3, by rw [hC 35 f (by omega) (by omega) (by omega) rfl]; exact c4⟩
def xC (σ1 σ' : tvS) (P : Nat) : Prop := (∀ j i, ¬ (i = P ∧ (j = 19 ∨ j = 27)) → scC j i = false → rd σ' j i = rd σ1 j i) ∧ σ'.2 = σ1.2
def xM (τ1 τ' : tvS) (P : Nat) : Prop := ∀ j i, ¬ (i = P ∧ 152 ≤ j ∧ j ≤ 158) → scM j i = false → rd τ' j i = rd τ1 j i
theorem rgN_no {a b j : Nat} (h : ¬ (a ≤ j ∧ j < b)) : rgN a b j = false := by
  unfold rgN
  cases e : Nat.ble a j && Nat.blt j b with
  | false => rfl
  | true =>
    rw [Bool.and_eq_true] at e
    exact absurd ⟨Nat.le_of_ble_eq_true e.1, Nat.blt_eq.mp e.2⟩ h
/-- one more part, no variable, fn or call -/
theorem ST.node {κ a b st A' D' H' n' : Nat} {x y : Int32} {kids : List Nat} (h : ST K1 K2 m μ g fc sc fs D H n A P (r0 + kids.length) σ τ) (hκ : κ ≤ 20) (hk2 : κ ≠ 2) (hk17 : κ ≠ 17) (hk3 : κ ≠ 3)
    (nC : nodC σ σ1 P κ (i32 a) (i32 b) (rd σ 62 5) st kids) (nM : nodM τ τ1 P (i32 (mKd κ)) x y st kids) (hxC : xC σ1 σ' P) (hxM : xM τ1 τ' P)
    (hk : contK σ st kids P) (hkn : ∀ c, c ∈ kids → rd σ 24 c = i32 (-1)) (n6 : rd τ' 152 P = i32 a) (n7 : rd τ' 153 P = i32 b) (n8 : a ≤ b) (n9 : b < A') (n21 : κ = 16 → a ≤ ix (rd σ' 19 P) ∧ ix (rd σ' 19 P) ≤ b) (n22 : nnR κ σ' P) (n16 : whtR κ σ' τ' P kids) (n17 : ∀ w c : Nat, kids[w]? = some c → chC σ (scl κ w σ' P ++ sc) (rd σ 28 c)) (n19 : ownR κ σ' P sc) (n20 : kids.length = ari κ)
    (hA : A ≤ A') (hA' : A' ≤ m) (hD : D' ≤ 40) (hH : H' ≤ 3 * A') (hn : n' ≤ 8 * A' + 20) (hw : P + 1 ≤ wch μ A')
    (e1 : rd σ' 62 3 = i32 A') (e2 : rd τ' 123 17 = i32 A') (e3 : rd σ' 62 4 = i32 D') (e4 : rd τ' 123 26 = i32 D') (e5 : rd σ' 62 11 = i32 H') (e6 : rd τ' 123 18 = i32 n') (e7 : rd τ' 123 22 = i32 (r0 + 1 : Nat)) : ST K1 K2 m μ g fc sc fs D' H' n' A' (P + 1) (r0 + 1) σ' τ' ∧ PT st P σ' := by
  have hall := h.all
  obtain ⟨F, ⟨hc, hs, hF1⟩, hF, hO, hPF, hZ⟩ := h
  obtain ⟨s1, s2, s3, s4, s5, s6, s7, s8, s9, s10, s11, s12⟩ := hs
  obtain ⟨o1, o2, o3, o4, o5, o6, o7, o8, o9, o10⟩ := hall
  obtain ⟨c1, c2, ⟨d1, d2, d3, d4, d5, d6, d7, d8, d9, d10⟩, c4, c5, c6, c7⟩ := nC
  obtain ⟨m1, m2, ⟨f1, f2, f3, f5, f6, f7, f8, f9⟩, m4, m5, m6⟩ := nM
  obtain ⟨x1, x2⟩ := hxC
  have hkm := contK.mem kids st P hk
  have hle : st ≤ P := by
    cases kids with
    | nil => exact Nat.le_of_eq hk
    | cons c r => have := hkm c List.mem_cons_self; omega
  have hnP : ∀ c, c ∈ kids → c ≠ P := fun c hc => by have := hkm c hc; omega
  have hC : ∀ j i, ¬ (i = P ∧ 16 ≤ j ∧ j ≤ 28) → ¬ (i ∈ kids ∧ 23 ≤ j ∧ j ≤ 25) → ¬ (j = 15 ∧ i = 13) → scC j i = false → rd σ' j i = rd σ j i := by
    intro j i h1 h2 h3 h4
    rw [x1 j i (by omega) h4]
    by_cases hj : 16 ≤ j ∧ j < 29
    · exact c1 j i (by omega) (fun q => h2 ⟨q.1, by omega, by omega⟩) (by omega)
    · exact c2 j i (rgN_no hj) (by omega)
  have hM : ∀ j i, ¬ (i = P ∧ 151 ≤ j ∧ j ≤ 163) → ¬ (i ∈ kids ∧ j = 159) → ¬ (j = 123 ∧ i = 46) → scM j i = false → rd τ' j i = rd τ j i := by
    intro j i h1 h2 h3 h4
    rw [hxM j i (by omega) h4]
    by_cases hj : 151 ≤ j ∧ j ≤ 163
    · exact m1 j i (by omega) h2 (by omega)
    · exact m2 j i hj (by omega)
  have hl : σ'.2 = σ.2 := x2.trans c7
  have hx : ∀ j, j ≠ 19 → j ≠ 27 → j < 62 → rd σ' j P = rd σ1 j P := fun j h1 h2 h3 => x1 j P (by omega) (scC_lo h3)
  have hy : ∀ j, 158 < j ∨ j = 151 → j ≤ 163 → rd τ' j P = rd τ1 j P := fun j h1 h2 => hxM j P (by omega) (scM_hi (by omega))
  have h24 : rd σ' 24 P = i32 (-1) := (hx 24 (by omega) (by omega) (by omega)).trans d6
  have hk23 : ∀ j, 28 < j → ∀ i, scC j i = false → rd σ' j i = rd σ j i := fun j h1 i h2 => hC j i (by omega) (by omega) (by omega) h2
  refine ⟨⟨F, ⟨?_, ⟨e1, e2, e3, e4, e5, e6, e7, hA', hD, hH, hn, hw⟩, by omega⟩, by omega, ?_, fun f hf => ?_, hZ.node o5.2 (by omega) ?_ ?_ (fun i hi => by rcases hi with e | e | e | e <;> rw [e] <;> exact hM 123 _ (by omega) (by omega) (by omega) rfl) (fun j hj i => hM j i (by omega) (by omega) (by omega) (scM_hi (by omega))) (fun i hi => hM 160 i (by omega) (by omega) (by omega) rfl)⟩, hle, (hx 26 (by omega) (by omega) (by omega)).trans d8, h24, (hx 25 (by omega) (by omega) (by omega)).trans d7, (hx 23 (by omega) (by omega) (by omega)).trans d5, ((hx 28 (by omega) (by omega) (by omega)).trans d10).trans (hk23 62 (by omega) 5 rfl).symm⟩
  rotate_left
  · rw [hk23 62 (by omega) 6 rfl, hO]
    cases sc with
    | nil => rfl
    | cons v t => exact (hk23 31 (by omega) v rfl).symm
  · obtain ⟨a, b1, b2⟩ := hPF f hf
    exact ⟨a, (hk23 46 (by omega) f rfl).trans b1, by omega⟩
  · rw [hxM 123 46 (by omega) rfl]; exact m5
  · exact (hy 160 (by omega) (by omega)).trans f7
  refine CORE.node (σ := σ) (τ := τ) (kids := kids) (κ := κ) (fs := fs) (a := a) (b := b) (st := st) (hc.ag (by omega) agC.refl agM.refl hA) (by omega) (by omega) hA' (fun j i h1 h2 _ h4 _ _ h7 => hC j i h1 h2 (by omega) h7) (fun j i h1 h2 h3 _ h5 => hM j i h1 h2 (by omega) h5) (by rw [hl]) (by unfold roomC at o10 ⊢; unfold ln rm at o10 ⊢; rw [hl]; exact o10)
    (fun C cp hcp => ⟨C, cp, hcp.node hk2 hk17 hκ ((hx 16 (by omega) (by omega) (by omega)).trans d1) (fun j i h1 h2 h3 h4 => hC j i h1 (by omega) h3 h4) hl⟩) ?_ ?_ (fun q h1 h2 => ⟨q, by rw [hM 123 60 (by omega) (by omega) (by omega) rfl]; exact h1, Nat.le_refl _, by omega⟩) hk hkn hκ ((hx 16 (by omega) (by omega) (by omega)).trans d1) ((hy 151 (by omega) (by omega)).trans f1) ((hx 17 (by omega) (by omega) (by omega)).trans d2) ((hx 18 (by omega) (by omega) (by omega)).trans d3) n6 n7 n8 n9 ((hx 26 (by omega) (by omega) (by omega)).trans d8) ((hy 161 (by omega) (by omega)).trans f8) ((hx 28 (by omega) (by omega) (by omega)).trans d10) ((hy 160 (by omega) (by omega)).trans f7) (by rw [h24]; exact (hy 159 (by omega) (by omega)).trans f6) (fun w c hw2 => ?_) n16 n17 ⟨fun q => absurd q hk2, n22⟩ n19 ⟨fun _ => n20, fun q => absurd q hk3⟩ ⟨fun q => absurd q hk3, n21⟩
  · rw [x1 15 13 (by omega) rfl]; exact c6
  · rw [hxM 123 46 (by omega) rfl]; exact m5
  · have hc' := hnP c (List.mem_of_getElem? hw2)
    obtain ⟨g1, g2⟩ := c5 w c hw2
    rw [x1 24 c (by omega) rfl, x1 25 c (by omega) rfl, hxM 159 c (by omega) rfl]
    exact ⟨g1, g2, m4 w c hw2⟩
theorem scl_no {κ w p : Nat} (h1 : κ ≠ 17) (h2 : κ ≠ 19) (h3 : κ ≠ 20) : scl κ w σ p = [] := by
  unfold scl
  rw [if_neg h1, if_neg (fun q => h2 q.1), if_neg (fun q => h3 q.1)]
theorem ownR_no {κ p : Nat} {l : List Nat} (h1 : κ ≠ 17) (h2 : κ ≠ 19) (h3 : κ ≠ 20) : ownR κ σ p l := ⟨fun q => absurd q h2, fun q => absurd q h3, fun q => absurd q h1⟩
theorem nnR_no {κ p : Nat} (h0 : κ ≠ 2) (h1 : κ ≠ 17) (h2 : κ ≠ 19) (h3 : κ ≠ 20) : nnR κ σ p := ⟨fun q => by omega, fun q => absurd q h1⟩
theorem nnR_27 {κ p v : Nat} (h1 : κ ≠ 17) (h : rd σ 27 p = i32 (v : Int)) (hv : v < 5000) : nnR κ σ p := ⟨fun _ => by rw [h, i32_ixn (by omega)], fun q => absurd q h1⟩
theorem ari2 : ∀ x, x < 17 → (x = 4 ∨ x = 7 ∨ 8 ≤ x) → ari x = 2 := by decide
end NODE
