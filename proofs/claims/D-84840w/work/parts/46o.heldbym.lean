/-! REGIONS, THE MODEL: how much an arrow holds; what a function's signature is of -/
section SIGNS
variable {L : Nat} {xs : Nat → Int32} {σ τ τ' τ0 : tvS} {D : pgD} {m f : Nat} {N H S Sh : Nat} {G : tG} {r : Nat → Nat} {hl : Nat → List Nat} {hv : Nat → Nat}
theorem hbm_loop (hH : H ≤ 250000) (hS : S < 2147483648) (d : Nat) : ∀ (l pre : List Nat) (n : Nat) (τ : tvS) (x3 : Int32) (v1 v4 : Value), TM N G r τ → rd τ 123 84 = i32 (S : Int) → (∀ g, g ∈ l → g < H ∧ rd τ 174 g = i32 (hv g : Int) ∧ hv g < N) → chW τ l x3 → (∀ y, y < N → ∃ s : Nat, s ≤ S ∧ rd τ 183 y = i32 (s : Int) ∧ (s = S ↔ y ∈ pre.map (fun g => r (hv g)))) → n + l.length < 1000000 →
    ∃ (τ' : tvS), rn L xs (d + 2) 365 19 [.ref 123, v1, .int (i32 (n : Int)), .int x3, v4] [] τ = some (.inl (some (.int (i32 ((n + (hbx G r hv pre l).length : Nat) : Int)))), τ') ∧ TM N G r τ' ∧ MH N S τ' ∧ frM [169, 183] [] τ τ' := by
  intro l
  induction l with
  | nil =>
    intro pre n τ x3 v1 v4 hT h84 hg hc hm hn
    refine ⟨τ, ?_, hT, ⟨h84, fun y hy => by obtain ⟨s, s1, s2, _⟩ := hm y hy; exact ⟨s, s1, s2⟩⟩, frM.refl⟩
    have e : x3 = i32 (-1) := hc
    rw [e365_19 (d + 1), e, i32_raw, c2_refl, e365_90]
    rfl
  | cons i l ih =>
    intro pre n τ x3 v1 v4 hT h84 hg hc hm hn
    obtain ⟨e3, hc3⟩ := hc
    have hi := hg i List.mem_cons_self
    obtain ⟨s1, a1, a2, a3⟩ := find_M (L := L) (xs := xs) hT hi.2.2 d jv jv jv
    have hN := hT.2.2.1
    have ri := hT.rlt hi.2.2
    obtain ⟨u1, u2, u3⟩ := a2.2.2.2.2.2.1 (r (hv i)) ri
    obtain ⟨sm, m1, m2, m3⟩ := hm (r (hv i)) ri
    have hn1 : n + (l.length + 1) < 1000000 := hn
    have e183 : rd s1 183 (r (hv i)) = i32 (sm : Int) := (a3.rd (j := 183) rfl _).trans m2
    have e84 : rd s1 123 84 = i32 (S : Int) := (a3.2 84 rfl).trans h84
    obtain ⟨s2, es2⟩ : ∃ s2, s2 = wr s1 183 (r (hv i)) (i32 (S : Int)) := ⟨_, rfl⟩
    have w12 : frM [183] [] s1 s2 := by rw [es2]; exact frM_wr rfl (by decide)
    have wa : frM [169, 183] [] τ s2 := (a3.sub rfl rfl).trans (w12.sub rfl rfl)
    have hT2 : TM N G r s2 := a2.fr w12 rfl ⟨rfl, rfl, rfl, rfl⟩
    have mp : ∀ y, y ∈ (pre ++ [i]).map (fun g => r (hv g)) ↔ y ∈ pre.map (fun g => r (hv g)) ∨ y = r (hv i) := fun y => by
      rw [List.map_append, List.mem_append]
      exact or_congr Iff.rfl List.mem_singleton
    have hm2 : ∀ y, y < N → ∃ s : Nat, s ≤ S ∧ rd s2 183 y = i32 (s : Int) ∧ (s = S ↔ y ∈ (pre ++ [i]).map (fun g => r (hv g))) := fun y hy => by
      by_cases q : y = r (hv i)
      · refine ⟨S, Nat.le_refl _, by rw [es2, q, wr_self], fun _ => (mp y).mpr (.inr q), fun _ => rfl⟩
      · obtain ⟨s, q1, q2, q3⟩ := hm y hy
        refine ⟨s, q1, by rw [es2, wr_nei q, a3.rd (j := 183) rfl]; exact q2, fun h => (mp y).mpr (.inl (q3.mp h)), fun h => ?_⟩
        rcases (mp y).mp h with h | h
        · exact q3.mpr h
        · exact absurd h q
    have eh : hbx G r hv pre (i :: l) = if G.1 (r (hv i)) = 1 ∨ r (hv i) ∈ pre.map (fun g => r (hv g)) then hbx G r hv (pre ++ [i]) l else r (hv i) :: hbx G r hv (pre ++ [i]) l := rfl
    have head : rn L xs (d + 2) 365 19 [.ref 123, v1, .int (i32 (n : Int)), .int x3, v4] [] τ = cond (decide ((sm : Int) = (S : Int))) (rn L xs (d + 2) 365 66 [.ref 123, (dj v1), .int (i32 (n : Int)), .int (i32 (i : Int)), .int (i32 (r (hv i) : Int))] [.int (i32 (n : Int))] s1) (cond (decide ((G.1 (r (hv i)) : Int) = 1)) (rn L xs (d + 2) 365 66 [.ref 123, (dj v1), .int (i32 (n : Int)), .int (i32 (i : Int)), .int (i32 (r (hv i) : Int))] [.int (i32 (n : Int))] s1) (rn L xs (d + 2) 365 67 [.ref 123, (dj v1), .int (i32 (n : Int)), .int (i32 (i : Int)), .int (i32 (r (hv i) : Int))] [.int 1, .int (i32 (n : Int))] s1)) := by
      rw [e365_19 (d + 1), e3, i32_raw, c2_eq (by omega) (by omega) (by omega) (by omega), c_f (by omega), c_in (by omega) (by omega) (by omega), i32_ixn (by omega), hi.2.1, bI_ok a1, c_in (by omega) (by omega) (by omega), i32_ixn (by omega), e183, e84, c2_eq (by omega) (by omega) (by omega) (by omega), c_in (by omega) (by omega) (by omega), u1, show (1 : Int32) = i32 1 from rfl, c2_eq (by omega) (by omega) (by omega) (by omega)]
    have nx : ∀ (z k : Nat) (u : Int32), u = i32 (k : Int) → z = n + k → rn L xs (d + 2) 365 67 [.ref 123, (dj v1), .int (i32 (n : Int)), .int (i32 (i : Int)), .int (i32 (r (hv i) : Int))] [.int u, .int (i32 (n : Int))] s1 = rn L xs (d + 2) 365 19 [.ref 123, (jk (dj v1)), .int (i32 (z : Int)), .int (rd τ 175 i), .int (i32 (r (hv i) : Int))] [] s2 := fun z k u hu hz => by
      rw [e365_67, c_in (by omega) (by omega) (by omega), c_in (by omega) (by omega) (by omega), i32_ixn (by omega), i32_ixn (by omega), e84, ← es2, hu, i32_add, a3.rd (j := 175) rfl]
      congr 1
      rw [show ((n : Int) + (k : Int)) = (z : Int) by omega]
    have go : ∀ z : Nat, z + l.length < 1000000 → _ := fun z hz => ih (pre ++ [i]) z s2 (rd τ 175 i) (jk (dj v1)) (.int (i32 (r (hv i) : Int))) hT2 ((w12.2 84 rfl).trans e84) (fun g hgm => by rw [wa.rd (j := 174) rfl]; exact hg g (List.mem_cons_of_mem _ hgm)) (hc3.congr (fun j _ => wa.rd (j := 175) rfl j)) hm2 hz
    by_cases q : sm = S ∨ G.1 (r (hv i)) = 1
    · have hcond : G.1 (r (hv i)) = 1 ∨ r (hv i) ∈ pre.map (fun g => r (hv g)) := q.elim (fun h => .inr (m3.mp h)) .inl
      obtain ⟨τ', z1, z2, z3, z4⟩ := go n (by omega)
      refine ⟨τ', ?_, z2, z3, wa.trans z4⟩
      have h66 : rn L xs (d + 2) 365 66 [.ref 123, (dj v1), .int (i32 (n : Int)), .int (i32 (i : Int)), .int (i32 (r (hv i) : Int))] [.int (i32 (n : Int))] s1 = some (.inl (some (.int (i32 ((n + (hbx G r hv (pre ++ [i]) l).length : Nat) : Int)))), τ') := by
        rw [e365_66, nx n 0 0 rfl rfl]; exact z1
      rw [head, eh, if_pos hcond]
      by_cases q1 : sm = S
      · rw [decide_eq_true (by omega), cond_true]; exact h66
      · rw [decide_eq_false (by omega), cond_false, decide_eq_true (by have := q.resolve_left q1; omega), cond_true]; exact h66
    · have hcond : ¬ (G.1 (r (hv i)) = 1 ∨ r (hv i) ∈ pre.map (fun g => r (hv g))) := fun h => q (h.elim .inr (fun h => .inl (m3.mpr h)))
      obtain ⟨τ', z1, z2, z3, z4⟩ := go (n + 1) (by omega)
      refine ⟨τ', ?_, z2, z3, wa.trans z4⟩
      rw [head, eh, if_neg hcond, decide_eq_false (fun h => q (.inl (by omega))), cond_false, decide_eq_false (fun h => q (.inr (by omega))), cond_false, nx (n + 1) 1 1 rfl rfl, z1]
      have el : (r (hv i) :: hbx G r hv (pre ++ [i]) l).length = (hbx G r hv (pre ++ [i]) l).length + 1 := rfl
      rw [el, show n + 1 + (hbx G r hv (pre ++ [i]) l).length = n + ((hbx G r hv (pre ++ [i]) l).length + 1) by omega]
theorem heldBy_m {t : Nat} (hT : TM N G r τ) (hH : HM N r hl hv H τ) (hM : MH N Sh τ) (hSh : Sh + 1 < 2147483648) (ht : t < N) (hr : r t = t) (d : Nat) (v2 v3 v4 : Value) :
    ∃ (τ' : tvS), rn L xs (d + 2) 365 0 [.ref 123, .int (i32 (t : Int)), v2, v3, v4] [] τ = some (.inl (some (.int (i32 ((hbx G r hv [] (hl t)).length : Int)))), τ') ∧ TM N G r τ' ∧ MH N (Sh + 1) τ' ∧ frM [169, 183] [84] τ τ' := by
  obtain ⟨h1, h2, h3, h4, h5⟩ := id hH
  obtain ⟨k1, k2, k3⟩ := h4 t ht hr
  have hfl : (hl t).length ≤ H := nodup_lt (N := H) k2 k3
  have w1 : frM [] [84] τ (wr τ 123 84 (rd τ 123 84 + 1)) := frM_w rfl
  have e1 : rd τ 123 84 + 1 = i32 ((Sh + 1 : Nat) : Int) := by rw [hM.1, i32_up]
  have hN := hT.2.2.1
  obtain ⟨τ', z1, z2, z3, z4⟩ := hbm_loop (L := L) (xs := xs) (S := Sh + 1) h2 hSh d (hl t) [] 0 (wr τ 123 84 (rd τ 123 84 + 1)) (rd τ 170 t) (.int (i32 (t : Int))) v4 (hT.fr w1 rfl ⟨rfl, rfl, rfl, rfl⟩) (by rw [wr_self, e1]) (fun g hg => by rw [w1.rd (j := 174) rfl]; exact ⟨k3 g hg, h3 g (k3 g hg)⟩) (k1.congr (fun j _ => w1.rd (j := 175) rfl j)) (fun y hy => by
    obtain ⟨s, s1, s2⟩ := hM.2 y hy
    exact ⟨s, by omega, by rw [w1.rd (j := 183) rfl]; exact s2, fun h => by omega, fun h => by cases h⟩) (by omega)
  refine ⟨τ', ?_, z2, z3, (w1.sub rfl rfl).trans (z4.sub rfl rfl)⟩
  rw [e365_0, c_in (by omega) (by omega) (by omega), i32_ixn (by omega)]
  rw [Nat.zero_add] at z1
  exact z1
end SIGNS
