/-! REGIONS, THE COMPONENT: the numbers that a fn keeps -/
section KEEPS
variable {L : Nat} {xs : Nat → Int32} {σ σ' σ0 : tvS}
theorem nar1 : vp_nar .boolean (1 : Int32) = 1 := by decide
theorem nar0 : vp_nar .boolean (0 : Int32) = 0 := by decide
/-- marks of numbers -/
def MKs (cnt : Nat) (mk : Nat → Prop) (σ : tvS) : Prop := ∀ k, k < cnt → (mk k ∧ rd σ 86 (k + 1) = 1) ∨ (¬ mk k ∧ rd σ 86 (k + 1) = 0)
variable {K1 K2 N f fst n0 n : Nat} {C : tG} {c pe : Nat → Nat} {bl : List Nat} {own : Nat → Int}
/-- all marks at first -/
theorem marks_loop {slf : Prop} {x5 : Int32} (hf : f < 21) (hl60 : bl.length ≤ 60) (hs : (x5 = 1 ∧ slf) ∨ (x5 = 0 ∧ ¬ slf)) (ho : ∀ k, k < bl.length → rd σ0 82 (fst + k) = i32 (own k) ∧ -1 ≤ own k ∧ own k < 4101) (hB : BXL f fst bl σ0) (x2 x3 x4 : Int32) (d : Nat) : ∀ (j k : Nat) (σ : tvS), k + j = bl.length → frW [86] σ0 σ → (∀ i, i < k → (slf ∧ own i = -1 ∧ rd σ 86 (i + 1) = 1) ∨ (¬ (slf ∧ own i = -1) ∧ rd σ 86 (i + 1) = 0)) →
    ∃ (σ' : tvS), rn L xs (d + 2) 173 97 [.ref 74, .int (i32 (f : Int)), .int x2, .int x3, .int x4, .int x5, .int (i32 ((k + 1 : Nat) : Int))] [] σ = rn L xs (d + 2) 173 142 [.ref 74, .int (i32 (f : Int)), .int x2, .int x3, .int x4, .int x5, .int (i32 ((bl.length + 1 : Nat) : Int))] [] σ' ∧ frW [86] σ0 σ' ∧ MKs bl.length (fun i => slf ∧ own i = -1) σ' := by
  obtain ⟨⟨b1, b2, b3, b4, b5⟩, b6, b7⟩ := id hB
  intro j
  induction j with
  | zero =>
    intro k σ e w h
    have e : k = bl.length := by omega
    subst e
    refine ⟨σ, ?_, w, fun i hi => ?_⟩
    · rw [e173_97 (d + 1), c_in (by omega) (by omega) (by omega), i32_ixn (by omega), w.1 80 rfl, b2, c2_gt (by omega) (by omega) (by omega) (by omega), c_t (by omega)]
    · rcases h i hi with ⟨h1, h2, h3⟩ | h1
      · exact .inl ⟨⟨h1, h2⟩, h3⟩
      · exact .inr h1
  | succ j ih =>
    intro k σ e w h
    obtain ⟨o1, o2, o3⟩ := ho k (by omega)
    have ei : i32 (fst : Int) + i32 ((k + 1 : Nat) : Int) - 1 = i32 ((fst + k : Nat) : Int) := by
      rw [show (1 : Int32) = i32 1 from rfl, i32_add, i32_sub]; congr 1; omega
    have p174 : rn L xs (d + 1) 174 0 [.ref 74, .int (i32 (f : Int)), .int (i32 ((k + 1 : Nat) : Int))] [] σ = some (.inl (some (.int (i32 (own k)))), σ) := by
      rw [e174_0, c_in (by omega) (by omega) (by omega), i32_ixn (by omega), w.1 79 rfl, b1, ei, c_in (by omega) (by rw [w.ln, b7]; omega) (by rw [w.ln, b7]; omega), i32_ixn (by omega), w.1 82 rfl, o1]
    have fin : ∀ (y : Int32), ((y = 1 ∧ slf ∧ own k = -1) ∨ (y = 0 ∧ ¬ (slf ∧ own k = -1))) → rn L xs (d + 2) 173 97 [.ref 74, .int (i32 (f : Int)), .int x2, .int x3, .int x4, .int x5, .int (i32 ((k + 1 : Nat) : Int))] [] σ = rn L xs (d + 2) 173 135 [.ref 74, .int (i32 (f : Int)), .int x2, .int x3, .int x4, .int x5, .int (i32 ((k + 1 : Nat) : Int))] [.int y, .int (i32 ((k + 1 : Nat) : Int)), .ref 86] σ → ∃ (σ' : tvS), rn L xs (d + 2) 173 97 [.ref 74, .int (i32 (f : Int)), .int x2, .int x3, .int x4, .int x5, .int (i32 ((k + 1 : Nat) : Int))] [] σ = rn L xs (d + 2) 173 142 [.ref 74, .int (i32 (f : Int)), .int x2, .int x3, .int x4, .int x5, .int (i32 ((bl.length + 1 : Nat) : Int))] [] σ' ∧ frW [86] σ0 σ' ∧ MKs bl.length (fun i => slf ∧ own i = -1) σ' := by
      intro y hy hr
      have hn : vp_nar .boolean y = y := by rcases hy with ⟨q, _⟩ | ⟨q, _⟩ <;> rw [q] <;> decide
      have w1 : frW [86] σ (wr σ 86 (k + 1) y) := frW_wr rfl
      obtain ⟨σ', z1, z2, z3⟩ := ih (k + 1) (wr σ 86 (k + 1) y) (by omega) (w.trans w1) (fun i hi => by
        by_cases g : i = k
        · rw [g, wr_self]
          rcases hy with ⟨q1, q2, q3⟩ | ⟨q1, q2⟩
          · exact .inl ⟨q2, q3, q1⟩
          · exact .inr ⟨q2, q1⟩
        · rw [wr_nei (by omega)]; exact h i (by omega))
      refine ⟨σ', ?_, z2, z3⟩
      rw [hr, e173_135, c_in (by omega) (by omega) (by omega), i32_ixn (by omega), i32_up, hn]
      exact z1
    have head : rn L xs (d + 2) 173 97 [.ref 74, .int (i32 (f : Int)), .int x2, .int x3, .int x4, .int x5, .int (i32 ((k + 1 : Nat) : Int))] [] σ = cond (pv_c1 .eq x5) (rn L xs (d + 2) 173 134 [.ref 74, .int (i32 (f : Int)), .int x2, .int x3, .int x4, .int x5, .int (i32 ((k + 1 : Nat) : Int))] [.int (i32 ((k + 1 : Nat) : Int)), .ref 86] σ) (cond (decide (¬ own k = -1)) (rn L xs (d + 2) 173 134 [.ref 74, .int (i32 (f : Int)), .int x2, .int x3, .int x4, .int x5, .int (i32 ((k + 1 : Nat) : Int))] [.int (i32 ((k + 1 : Nat) : Int)), .ref 86] σ) (rn L xs (d + 2) 173 135 [.ref 74, .int (i32 (f : Int)), .int x2, .int x3, .int x4, .int x5, .int (i32 ((k + 1 : Nat) : Int))] [.int 1, .int (i32 ((k + 1 : Nat) : Int)), .ref 86] σ)) := by
      rw [e173_97 (d + 1), c_in (by omega) (by omega) (by omega), i32_ixn (by omega), w.1 80 rfl, b2, c2_gt (by omega) (by omega) (by omega) (by omega), c_f (by omega), bI_ok p174, i32_raw, c2_ne (by omega) (by omega) (by omega) (by omega)]
    rcases hs with ⟨q1, q2⟩ | ⟨q1, q2⟩
    · by_cases g : own k = -1
      · exact fin 1 (.inl ⟨rfl, q2, g⟩) (by rw [head, q1, show pv_c1 .eq (1 : Int32) = false from rfl, cond_false, decide_eq_false (fun h => h g), cond_false])
      · exact fin 0 (.inr ⟨rfl, fun h => g h.2⟩) (by rw [head, q1, show pv_c1 .eq (1 : Int32) = false from rfl, cond_false, decide_eq_true g, cond_true, e173_134])
    · exact fin 0 (.inr ⟨rfl, fun h => q2 h.1⟩) (by rw [head, q1, show pv_c1 .eq (0 : Int32) = true from rfl, cond_true, e173_134])
/-- puts within the body that go beyond are marked -/
theorem marks_puts {pt body hi : Nat} {mk0 : Nat → Prop} (hf : f < 21) (hN : N ≤ 1000000) (hn : n ≤ 32768) (hbl : ∀ x, x ∈ bl → x < N) (hd : (bl.map c).Nodup) (hl60 : bl.length ≤ 60) (hpe : ∀ i, i < n → pe i < N) (hb : body < 4101) (hhi : hi ≤ n) (h77 : rd σ0 77 (body + 1) = i32 (hi : Int)) (hnb : ∀ i, n0 ≤ i → i < n → ∃ k, k < bl.length ∧ c (bl.getD k 0) = c (pe i) ∧ rd σ0 76 i = i32 (own k)) (ho : ∀ k, k < bl.length → -1 ≤ own k ∧ own k < 4101) (x2 : Int32) (d : Nat) : ∀ (j i : Nat) (σ : tvS) (mk : Nat → Prop) (v4 v5 : Value), i + j = hi → n0 ≤ i → TC N C c σ → ROOM K1 K2 σ → QP n pe σ → BXL f fst bl σ → frW [52, 86] σ0 σ → MKs bl.length mk σ →
    ∃ (σ' : tvS) (w4 w5 : Value), rn L xs (d + 3) 173 151 [.ref 74, .int (i32 (f : Int)), .int x2, .int (i32 (body : Int)), v4, v5, .int (i32 (i : Int))] [] σ = rn L xs (d + 3) 173 210 [.ref 74, .int (i32 (f : Int)), .int x2, .int (i32 (body : Int)), w4, w5, .int (i32 (hi : Int))] [] σ' ∧ TC N C c σ' ∧ ROOM K1 K2 σ' ∧ QP n pe σ' ∧ BXL f fst bl σ' ∧ frW [52, 86] σ0 σ' ∧ MKs bl.length (fun k => mk k ∨ ∃ i', i ≤ i' ∧ i' < hi ∧ c (bl.getD k 0) = c (pe i') ∧ (own k = -1 ∨ (body : Int) < own k)) σ' := by
  intro j
  induction j with
  | zero =>
    intro i σ mk v4 v5 e hi0 hT hR hQ hB w hm
    have e : i = hi := by omega
    subst e
    refine ⟨σ, v4, v5, ?_, hT, hR, hQ, hB, w, fun k hk => ?_⟩
    · rw [e173_151 (d + 2), i32_up, c_in (by omega) (by omega) (by omega), i32_ixn (by omega), w.1 77 rfl, h77, c2_ge (by omega) (by omega) (by omega) (by omega), c_t (by omega)]
    · rcases hm k hk with ⟨h1, h2⟩ | ⟨h1, h2⟩
      · exact .inl ⟨.inl h1, h2⟩
      · refine .inr ⟨fun h => ?_, h2⟩
        rcases h with h | ⟨i', q1, q2, _⟩
        · exact h1 h
        · omega
  | succ j ih =>
    intro i σ mk v4 v5 e hi0 hT hR hQ hB w hm
    obtain ⟨k, k1, k2, k3⟩ := hnb i hi0 (by omega)
    obtain ⟨o1, o2⟩ := ho k k1
    have e76 : rd σ 76 i = i32 (own k) := by rw [w.1 76 rfl]; exact k3
    have hl75 := hR.le (k := 75) (M := 32768) (by decide)
    have hq75 := hQ.2.1
    have hq76 := hQ.2.2.1
    have head : rn L xs (d + 3) 173 151 [.ref 74, .int (i32 (f : Int)), .int x2, .int (i32 (body : Int)), v4, v5, .int (i32 (i : Int))] [] σ = cond (decide (own k = -1)) (rn L xs (d + 3) 173 186 [.ref 74, .int (i32 (f : Int)), .int x2, .int (i32 (body : Int)), v4, v5, .int (i32 (i : Int))] [] σ) (cond (decide (own k ≤ (body : Int))) (rn L xs (d + 3) 173 204 [.ref 74, .int (i32 (f : Int)), .int x2, .int (i32 (body : Int)), v4, v5, .int (i32 (i : Int))] [] σ) (rn L xs (d + 3) 173 186 [.ref 74, .int (i32 (f : Int)), .int x2, .int (i32 (body : Int)), v4, v5, .int (i32 (i : Int))] [] σ)) := by
      rw [e173_151 (d + 2), i32_up, c_in (by omega) (by omega) (by omega), i32_ixn (by omega), w.1 77 rfl, h77, c2_ge (by omega) (by omega) (by omega) (by omega), c_f (by omega), c_in (by omega) (by rw [hq76]; omega) (by rw [hq76]; omega), i32_ixn (by omega), e76, i32_raw, c2_eq (by omega) (by omega) (by omega) (by omega), c_in (by omega) (by rw [hq76]; omega) (by rw [hq76]; omega), c2_le (by omega) (by omega) (by omega) (by omega)]
    by_cases g : own k = -1 ∨ (body : Int) < own k
    · obtain ⟨s1, a1, a2, a3, a4⟩ := num_at (L := L) (xs := xs) hf hN hbl hd (hpe i (by omega)) k1 k2 hT hR hB d jv jv
      obtain ⟨⟨b1, b2, b3, b4, b5⟩, b6, b7⟩ := id hB
      have w1 : frW [86] s1 (wr s1 86 (k + 1) 1) := frW_wr rfl
      have wa : frW [52, 86] σ (wr s1 86 (k + 1) 1) := (a4.sub rfl).trans (w1.sub rfl)
      obtain ⟨σ', w4, w5, z1, z2, z3, z4, z5, z6, z7⟩ := ih (i + 1) (wr s1 86 (k + 1) 1) (fun k' => mk k' ∨ k' = k) (dj v4) (jk (dj v5)) (by omega) (by omega) (a2.T (w1.T [] [] rfl) rfl ⟨rfl, rfl, rfl, rfl⟩ (fun _ _ _ => rfl)) a3.wr ⟨by rw [wa.1 74 rfl]; exact hQ.1, by rw [wa.ln]; exact hQ.2.1, by rw [wa.ln, wa.ln]; exact hQ.2.2.1, fun i hi => by rw [wa.1 75 rfl]; exact hQ.2.2.2 i hi⟩ ⟨⟨by rw [wa.1 79 rfl]; exact b1, by rw [wa.1 80 rfl]; exact b2, by rw [wa.ln]; exact b3, by rw [wa.ln]; exact b4, fun i hi => by rw [wa.1 81 rfl]; exact b5 i hi⟩, by rw [wa.1 74 rfl]; exact b6, by rw [wa.ln, wa.ln]; exact b7⟩ (w.trans wa) (fun k' hk' => by
        by_cases q : k' = k
        · rw [q, wr_self]; exact .inl ⟨.inr rfl, rfl⟩
        · rw [wr_nei (by omega), a4.1 86 rfl]
          rcases hm k' hk' with ⟨h1, h2⟩ | ⟨h1, h2⟩
          · exact .inl ⟨.inl h1, h2⟩
          · exact .inr ⟨fun h => h.elim h1 q, h2⟩)
      refine ⟨σ', w4, w5, ?_, z2, z3, z4, z5, z6, fun k' hk' => ?_⟩
      · have r186 : rn L xs (d + 3) 173 186 [.ref 74, .int (i32 (f : Int)), .int x2, .int (i32 (body : Int)), v4, v5, .int (i32 (i : Int))] [] σ = rn L xs (d + 3) 173 210 [.ref 74, .int (i32 (f : Int)), .int x2, .int (i32 (body : Int)), w4, w5, .int (i32 (hi : Int))] [] σ' := by
          rw [e173_186 (d + 2), c_in (by omega) (by omega) (by omega), i32_ixn (by omega), hQ.2.2.2 i (by omega), bI_ok a1, c_in (by omega) (by omega) (by omega), i32_ixn (by omega), nar1, e173_204, i32_up]
          exact z1
        rw [head]
        by_cases g1 : own k = -1
        · rw [decide_eq_true g1, cond_true]; exact r186
        · rw [decide_eq_false g1, cond_false, decide_eq_false (by omega), cond_false]; exact r186
      · rcases z7 k' hk' with ⟨h1, h2⟩ | ⟨h1, h2⟩
        · refine .inl ⟨?_, h2⟩
          rcases h1 with (h | h) | ⟨i', q1, q2, q3⟩
          · exact .inl h
          · rw [h]; exact .inr ⟨i, Nat.le_refl _, by omega, k2, g⟩
          · exact .inr ⟨i', by omega, q2, q3⟩
        · refine .inr ⟨fun h => h1 ?_, h2⟩
          rcases h with h | ⟨i', q1, q2, q3, q4⟩
          · exact .inl (.inl h)
          · by_cases q : i' = i
            · rw [q] at q3
              exact .inl (.inr (bl_at hd hk' k1 (q3.trans k2.symm)))
            · exact .inr ⟨i', by omega, q2, q3, q4⟩
    · obtain ⟨σ', w4, w5, z1, z2, z3, z4, z5, z6, z7⟩ := ih (i + 1) σ mk v4 (jk v5) (by omega) (by omega) hT hR hQ hB w hm
      refine ⟨σ', w4, w5, ?_, z2, z3, z4, z5, z6, fun k' hk' => ?_⟩
      · rw [head, decide_eq_false (fun h => g (.inl h)), cond_false, decide_eq_true (by omega), cond_true, e173_204, i32_up]
        exact z1
      · rcases z7 k' hk' with ⟨h1, h2⟩ | ⟨h1, h2⟩
        · refine .inl ⟨?_, h2⟩
          rcases h1 with h | ⟨i', q1, q2, q3⟩
          · exact .inl h
          · exact .inr ⟨i', by omega, q2, q3⟩
        · refine .inr ⟨fun h => h1 ?_, h2⟩
          rcases h with h | ⟨i', q1, q2, q3, q4⟩
          · exact .inl h
          · by_cases q : i' = i
            · rw [q] at q3
              have := bl_at hd hk' k1 (q3.trans k2.symm)
              rw [this] at q4
              exact absurd q4 g
            · exact .inr ⟨i', by omega, q2, q3, q4⟩
/-- numbers of a kind, in order -/
noncomputable def nfil (mk : Nat → Prop) : Nat → List Nat
  | 0 => []
  | k + 1 => @ite _ (mk k) (Classical.propDecidable _) (nfil mk k ++ [k + 1]) (nfil mk k)
theorem nfil_y {mk : Nat → Prop} {k : Nat} (h : mk k) : nfil mk (k + 1) = nfil mk k ++ [k + 1] := if_pos h
theorem nfil_n {mk : Nat → Prop} {k : Nat} (h : ¬ mk k) : nfil mk (k + 1) = nfil mk k := if_neg h
theorem nfil_len {mk : Nat → Prop} : ∀ k, (nfil mk k).length ≤ k := by
  intro k
  induction k with
  | zero => exact Nat.le_refl _
  | succ k ih =>
    by_cases h : mk k
    · rw [nfil_y h, List.length_append]; show (nfil mk k).length + 1 ≤ k + 1; omega
    · rw [nfil_n h]; omega
theorem nfil_congr {mk mk' : Nat → Prop} : ∀ k, (∀ i, i < k → (mk i ↔ mk' i)) → nfil mk k = nfil mk' k := by
  intro k
  induction k with
  | zero => intro _; rfl
  | succ k ih =>
    intro h
    have e := ih (fun i hi => h i (by omega))
    by_cases q : mk k
    · rw [nfil_y q, nfil_y ((h k (by omega)).mp q), e]
    · rw [nfil_n q, nfil_n (fun g => q ((h k (by omega)).mpr g)), e]
theorem nfil_mem {mk : Nat → Prop} {x : Nat} : ∀ k, x ∈ nfil mk k ↔ ∃ i, i < k ∧ mk i ∧ x = i + 1 := by
  intro k
  induction k with
  | zero => exact ⟨fun h => (by cases h), fun ⟨i, h, _⟩ => by omega⟩
  | succ k ih =>
    by_cases h : mk k
    · rw [nfil_y h, List.mem_append, ih, List.mem_singleton]
      constructor
      · rintro (⟨i, h1, h2⟩ | h1)
        · exact ⟨i, by omega, h2⟩
        · exact ⟨k, by omega, h, h1⟩
      · rintro ⟨i, h1, h2, h3⟩
        by_cases e : i = k
        · rw [e] at h3; exact .inr h3
        · exact .inl ⟨i, by omega, h2, h3⟩
    · rw [nfil_n h, ih]
      constructor
      · rintro ⟨i, h1, h2⟩; exact ⟨i, by omega, h2⟩
      · rintro ⟨i, h1, h2, h3⟩
        by_cases e : i = k
        · rw [e] at h2; exact absurd h2 h
        · exact ⟨i, by omega, h2, h3⟩
/-- kept numbers so far -/
def KPC (kc : Nat) (kl : Nat → Int32) (σ : tvS) : Prop := rd σ 74 18 = i32 (kc : Int) ∧ kc ≤ ln σ 85 ∧ ∀ i, i < kc → rd σ 85 i = kl i
def frKp (j : Nat) (σ σ' : tvS) : Prop := frG [74, 84, 85] [85] σ σ' ∧ (∀ i, i ≠ 18 → rd σ' 74 i = rd σ 74 i) ∧ ∀ i, i ≠ j → rd σ' 84 i = rd σ 84 i
theorem frKp.refl {j : Nat} : frKp j σ σ := ⟨frG.refl, fun _ _ => rfl, fun _ _ => rfl⟩
theorem frKp.trans {j : Nat} {a b e : tvS} (h : frKp j a b) (g : frKp j b e) : frKp j a e := ⟨h.1.trans g.1, fun i hi => (g.2.1 i hi).trans (h.2.1 i hi), fun i hi => (g.2.2 i hi).trans (h.2.2 i hi)⟩
theorem keep_one {kc j m : Nat} {kl : Nat → Int32} (hR : ROOM K1 K2 σ) (hK : KPC kc kl σ) (hk : kc < 65536) (hj : j < 4101) (h84 : rd σ 84 j = i32 (m : Int)) (x : Int32) (d : Nat) :
    ∃ σ', rn L xs (d + 1) 175 0 [.ref 74, .int (i32 (j : Int)), .int x] [] σ = some (.inl none, σ') ∧ ROOM K1 K2 σ' ∧ KPC (kc + 1) (fun i => if i = kc then x else kl i) σ' ∧ rd σ' 84 j = i32 ((m + 1 : Nat) : Int) ∧ frKp j σ σ' := by
  obtain ⟨h1, h2, h3⟩ := hK
  have hle := hR.le (k := 85) (M := 65536) (by decide)
  have key : ∀ s : tvS, ROOM K1 K2 s → rd s 74 18 = i32 (kc : Int) → kc < ln s 85 → ln s 85 ≤ 65536 → (∀ i, i < kc → rd s 85 i = kl i) → rd s 84 j = i32 (m : Int) → frKp j σ s → ∃ σ', rn L xs (d + 1) 175 29 [.ref 74, .int (i32 (j : Int)), .int x] [] s = some (.inl none, σ') ∧ ROOM K1 K2 σ' ∧ KPC (kc + 1) (fun i => if i = kc then x else kl i) σ' ∧ rd σ' 84 j = i32 ((m + 1 : Nat) : Int) ∧ frKp j σ σ' := by
    intro s hs e hl hl2 hw h84 hf
    rw [e175_29, e, c_in (by omega) (by omega) (by omega), c_in (by omega) (by omega) (by omega), c_in (by omega) (by omega) (by omega), i32_ixn (by omega), i32_ixn (by omega), h84, i32_up, i32_up]
    refine ⟨_, rfl, hs.wr.wr.wr, ⟨?_, ?_, fun i hi => ?_⟩, wr_self _ _ _ _, hf.trans ⟨(frG_wr rfl).trans ((frG_wr rfl).trans (frG_wr rfl)), fun i hi => by rw [wr_nek (by decide), wr_nei hi, wr_nek (by decide)], fun i hi => by rw [wr_nei hi, wr_nek (by decide), wr_nek (by decide)]⟩⟩
    · rw [wr_nek (by decide), wr_self]
    · show kc + 1 ≤ ln s 85; omega
    · rw [wr_nek (by decide), wr_nek (by decide)]
      show _ = if i = kc then x else kl i
      by_cases q : i = kc
      · rw [q, wr_self, if_pos rfl]
      · rw [wr_nei q, if_neg q]; exact hw i (by omega)
  rw [e175_0, h1, i32_nat, c2_ne (by omega) (by omega) (by omega) (by omega)]
  by_cases q : kc = ln σ 85
  · rw [c_f (by omega)]
    have e2 : (2 : Int32) * i32 (kc : Int) = i32 ((2 * ln σ 85 : Nat) : Int) := by rw [show (2 : Int32) = i32 2 from rfl, i32_mul, q]; congr 1
    obtain ⟨g1, g2, g3, g4⟩ := hR.grow (k := 85) (M := 65536) (by decide) (by omega) (by decide)
    rw [e2, g1, cond_true, i32_ixn (by omega)]
    exact key _ g2 (by rw [rd_gw, if_neg (by decide)]; exact h1) (by rw [ln_gw, if_pos rfl]; omega) (by rw [ln_gw, if_pos rfl]; omega) (fun i hi => by rw [rd_gw, if_pos rfl, if_pos (by omega)]; exact h3 i hi) (by rw [rd_gw, if_neg (by decide)]; exact h84) ⟨frG_gw rfl rfl, fun i _ => by rw [rd_gw, if_neg (by decide)], fun i _ => by rw [rd_gw, if_neg (by decide)]⟩
  · rw [c_t (by omega)]
    exact key σ hR h1 (by omega) hle h3 h84 frKp.refl
/-- marked ones are kept -/
theorem keep_loop {kf j : Nat} {kl : Nat → Int32} {mk : Nat → Prop} (hf : f < 21) (hj : j < 4101) (hl60 : bl.length ≤ 60) (hkf : kf + 60 < 65536) (h80 : rd σ0 80 f = i32 (bl.length : Int)) (hm : MKs bl.length mk σ0) (d : Nat) : ∀ (i k : Nat) (σ : tvS) (v3 v4 v5 : Value), k + i = bl.length → ROOM K1 K2 σ → frKp j σ0 σ → KPC (kf + (nfil mk k).length) (fun q => if q < kf then kl q else i32 (((nfil mk k).getD (q - kf) 0 : Nat) : Int)) σ → rd σ 84 j = i32 ((nfil mk k).length : Int) →
    ∃ (σ' : tvS) (w3 w4 w5 : Value), rn L xs (d + 2) 173 213 [.ref 74, .int (i32 (f : Int)), .int (i32 (j : Int)), v3, v4, v5, .int (i32 ((k + 1 : Nat) : Int))] [] σ = rn L xs (d + 2) 173 247 [.ref 74, .int (i32 (f : Int)), .int (i32 (j : Int)), w3, w4, w5, .int (i32 ((bl.length + 1 : Nat) : Int))] [] σ' ∧ ROOM K1 K2 σ' ∧ frKp j σ0 σ' ∧ KPC (kf + (nfil mk bl.length).length) (fun q => if q < kf then kl q else i32 (((nfil mk bl.length).getD (q - kf) 0 : Nat) : Int)) σ' ∧ rd σ' 84 j = i32 ((nfil mk bl.length).length : Int) := by
  intro i
  induction i with
  | zero =>
    intro k σ v3 v4 v5 e hR w hK h84
    have e : k = bl.length := by omega
    subst e
    refine ⟨σ, v3, v4, v5, ?_, hR, w, hK, h84⟩
    rw [e173_213 (d + 1), c_in (by omega) (by omega) (by omega), i32_ixn (by omega), w.1.1 80 rfl, h80, c2_gt (by omega) (by omega) (by omega) (by omega), c_t (by omega)]
  | succ i ih =>
    intro k σ v3 v4 v5 e hR w hK h84
    have hlen := nfil_len (mk := mk) k
    have head : rn L xs (d + 2) 173 213 [.ref 74, .int (i32 (f : Int)), .int (i32 (j : Int)), v3, v4, v5, .int (i32 ((k + 1 : Nat) : Int))] [] σ = cond (pv_c1 .eq (rd σ0 86 (k + 1))) (rn L xs (d + 2) 173 241 [.ref 74, .int (i32 (f : Int)), .int (i32 (j : Int)), v3, v4, v5, .int (i32 ((k + 1 : Nat) : Int))] [] σ) (bV (rn L xs (d + 1) 175 0 [.ref 74, .int (i32 (j : Int)), .int (i32 ((k + 1 : Nat) : Int))] [] σ) (fun s1 => rn L xs (d + 2) 173 241 [.ref 74, .int (i32 (f : Int)), .int (i32 (j : Int)), (dj v3), (dj v4), (dj v5), .int (i32 ((k + 1 : Nat) : Int))] [] s1) X0) := by
      rw [e173_213 (d + 1), c_in (by omega) (by omega) (by omega), i32_ixn (by omega), w.1.1 80 rfl, h80, c2_gt (by omega) (by omega) (by omega) (by omega), c_f (by omega), c_in (by omega) (by omega) (by omega), i32_ixn (by omega), w.1.1 86 rfl]
    rcases hm k (by omega) with ⟨h1, h2⟩ | ⟨h1, h2⟩
    · obtain ⟨s1, a1, a2, a3, a4, a5⟩ := keep_one (L := L) (xs := xs) hR hK (by omega) hj h84 (i32 ((k + 1 : Nat) : Int)) d
      obtain ⟨σ', w3, w4, w5, z1, z2, z3, z4, z5⟩ := ih (k + 1) s1 (dj v3) (dj v4) (jk (dj v5)) (by omega) a2 (w.trans a5) (by
        rw [nfil_y h1, List.length_append]
        refine ⟨by rw [show kf + ((nfil mk k).length + [k + 1].length) = kf + (nfil mk k).length + 1 from rfl]; exact a3.1, a3.2.1, fun q hq => ?_⟩
        have hq : q < kf + (nfil mk k).length + 1 := hq
        rw [a3.2.2 q hq]
        show (if q = kf + (nfil mk k).length then i32 ((k + 1 : Nat) : Int) else if q < kf then kl q else i32 (((nfil mk k).getD (q - kf) 0 : Nat) : Int)) = (if q < kf then kl q else i32 (((nfil mk k ++ [k + 1]).getD (q - kf) 0 : Nat) : Int))
        by_cases g : q = kf + (nfil mk k).length
        · rw [if_pos g, if_neg (by omega), g, show kf + (nfil mk k).length - kf = (nfil mk k).length by omega, List.getD_eq_getElem?_getD, List.getElem?_append_right (Nat.le_refl _), Nat.sub_self]; rfl
        · rw [if_neg g]
          by_cases g2 : q < kf
          · rw [if_pos g2, if_pos g2]
          · rw [if_neg g2, if_neg g2, List.getD_eq_getElem?_getD, List.getD_eq_getElem?_getD, List.getElem?_append_left (by omega)]) (by rw [nfil_y h1, List.length_append]; exact a4)
      refine ⟨σ', w3, w4, w5, ?_, z2, z3, z4, z5⟩
      rw [head, h2, show pv_c1 .eq (1 : Int32) = false from rfl, cond_false, bV_ok a1, e173_241, i32_up]
      exact z1
    · obtain ⟨σ', w3, w4, w5, z1, z2, z3, z4, z5⟩ := ih (k + 1) σ v3 v4 (jk v5) (by omega) hR w (by rw [nfil_n h1]; exact hK) (by rw [nfil_n h1]; exact h84)
      refine ⟨σ', w3, w4, w5, ?_, z2, z3, z4, z5⟩
      rw [head, h2, show pv_c1 .eq (0 : Int32) = true from rfl, cond_true, e173_241, i32_up]
      exact z1
end KEEPS
