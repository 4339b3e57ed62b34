/-! REGIONS, THE COMPONENT: owners of numbers are settled -/
section SETTLE
variable {L : Nat} {xs : Nat → Int32} {σ σ' σ0 : tvS}
theorem bxL_nodup {c : Nat → Nat} : ∀ (l b : List Nat), (b.map c).Nodup → ((bxL c l b).map c).Nodup := by
  intro l
  induction l with
  | nil => intro b h; exact h
  | cons x l ih =>
    intro b h
    show ((if 60 < b.length then b else bxL c l (bxA c b x)).map c).Nodup
    by_cases q : 60 < b.length
    · rw [if_pos q]; exact h
    · rw [if_neg q]
      refine ih _ ?_
      unfold bxA
      by_cases k : c x ∈ b.map c
      · rw [if_pos k]; exact h
      · rw [if_neg k, List.map_append, List.nodup_append]
        exact ⟨h, List.nodup_cons.mpr ⟨fun k => (by cases k), List.nodup_nil⟩, fun a ha b' hb e => k (by rw [List.mem_singleton.mp hb] at e; rw [← e]; exact ha)⟩
/-- a number of a class: where it stands, and no other -/
theorem bl_at {c : Nat → Nat} {bl : List Nat} (hd : (bl.map c).Nodup) {k k' : Nat} (h1 : k < bl.length) (h2 : k' < bl.length) (e : c (bl.getD k 0) = c (bl.getD k' 0)) : k = k' := by
  have a1 : (bl.map c)[k]? = some (c (bl.getD k 0)) := by rw [List.getElem?_map, List.getD_eq_getElem?_getD, List.getElem?_eq_getElem h1]; rfl
  have a2 : (bl.map c)[k']? = some (c (bl.getD k' 0)) := by rw [List.getElem?_map, List.getD_eq_getElem?_getD, List.getElem?_eq_getElem h2]; rfl
  exact (List.getElem?_inj (by rw [List.length_map]; exact h1) hd).mp (by rw [a1, a2, e])
variable {K1 K2 N f fst n0 n : Nat} {C : tG} {c pe : Nat → Nat} {bl : List Nat} {own : Nat → Int}
/-- the number of a put -/
theorem num_at (hf : f < 21) (hN : N ≤ 1000000) (hbl : ∀ x, x ∈ bl → x < N) (hd : (bl.map c).Nodup) {x k : Nat} (hx : x < N) (hk : k < bl.length) (e : c (bl.getD k 0) = c x) (hT : TC N C c σ) (hR : ROOM K1 K2 σ) (hB : BXL f fst bl σ) (d : Nat) (v3 v4 : Value) :
    ∃ σ', rn L xs (d + 2) 167 0 [.ref 74, .int (i32 (f : Int)), .int (i32 (x : Int)), v3, v4] [] σ = some (.inl (some (.int (i32 ((k + 1 : Nat) : Int)))), σ') ∧ TC N C c σ' ∧ ROOM K1 K2 σ' ∧ frW [52] σ σ' := by
  have hbx : ∀ k, k < bl.length → bl.getD k 0 < N := fun k hk => by
    apply hbl
    rw [List.getD_eq_getElem?_getD, List.getElem?_eq_getElem hk]
    exact List.getElem_mem _
  obtain ⟨s1, res, a1, a2, a3, a4, a5⟩ := number_c (L := L) (xs := xs) (f := f) (fst := fst) (cnt := bl.length) hf hbx hN hx hT hR hB.1 d v3 v4
  refine ⟨s1, ?_, a3, a4, a5⟩
  rcases a2 with ⟨r1, r2⟩ | ⟨i, i1, i2, i3, i4⟩
  · exact absurd e (r2 k hk)
  · have := bl_at hd i1 hk (i3.trans e.symm)
    rw [a1, i2, this]
theorem settle_loop (hf : f < 21) (hN : N ≤ 1000000) (hn : n ≤ 32768) (hbl : ∀ x, x ∈ bl → x < N) (hd : (bl.map c).Nodup) (hl60 : bl.length ≤ 60) (hpe : ∀ i, i < n → pe i < N) (hnb : ∀ i, n0 ≤ i → i < n → ∃ k, k < bl.length ∧ c (bl.getD k 0) = c (pe i) ∧ rd σ0 76 i = i32 (own k)) (d : Nat) : ∀ (j i : Nat) (σ : tvS) (v2 : Value), i + j = n → n0 ≤ i → TC N C c σ → ROOM K1 K2 σ → QP n pe σ → BXL f fst bl σ → frW [52, 82] σ0 σ → (∀ k i', n0 ≤ i' → i' < i → k < bl.length → c (bl.getD k 0) = c (pe i') → rd σ 82 (fst + k) = i32 (own k)) → (∀ q, q < fst → rd σ 82 q = rd σ0 82 q) →
    ∃ (σ' : tvS), rn L xs (d + 3) 172 2 [.ref 74, .int (i32 (f : Int)), v2, .int (i32 (i : Int))] [] σ = some (.inl none, σ') ∧ TC N C c σ' ∧ ROOM K1 K2 σ' ∧ frW [52, 82] σ0 σ' ∧ (∀ k i', n0 ≤ i' → i' < n → k < bl.length → c (bl.getD k 0) = c (pe i') → rd σ' 82 (fst + k) = i32 (own k)) ∧ (∀ q, q < fst → rd σ' 82 q = rd σ0 82 q) := by
  intro j
  induction j with
  | zero =>
    intro i σ v2 e hi hT hR hQ hB w h1 h2
    have e : i = n := by omega
    subst e
    refine ⟨σ, ?_, hT, hR, w, h1, h2⟩
    rw [e172_2 (d + 2), hQ.1, c2_ge (by omega) (by omega) (by omega) (by omega), c_t (by omega), e172_47]
  | succ j ih =>
    intro i σ v2 e hi hT hR hQ hB w h1 h2
    obtain ⟨k, k1, k2, k3⟩ := hnb i hi (by omega)
    obtain ⟨s1, a1, a2, a3, a4⟩ := num_at (L := L) (xs := xs) hf hN hbl hd (hpe i (by omega)) k1 k2 hT hR hB d jv jv
    obtain ⟨⟨b1, b2, b3, b4, b5⟩, b6, b7⟩ := id hB
    have hq75 := hQ.2.1
    have hl75 := hR.le (k := 75) (M := 32768) (by decide)
    have rh82 : rh s1 82 = rh σ 82 := a4.rh 82
    have l76 : ln s1 76 = ln σ 75 := by rw [a4.ln]; exact hQ.2.2.1
    have l82 : ln s1 82 = ln σ 81 := by rw [a4.ln]; exact b7
    have ei : i32 (fst : Int) + i32 ((k + 1 : Nat) : Int) - 1 = i32 ((fst + k : Nat) : Int) := by
      rw [show (1 : Int32) = i32 1 from rfl, i32_add, i32_sub]; congr 1; omega
    have w1 : frW [82] s1 (wr s1 82 (fst + k) (rd s1 76 i)) := frW_wr rfl
    have e76 : rd s1 76 i = i32 (own k) := by rw [a4.1 76 rfl, w.1 76 rfl]; exact k3
    have hT2 : TC N C c (wr s1 82 (fst + k) (rd s1 76 i)) := a2.T (w1.T [] [] rfl) rfl ⟨rfl, rfl, rfl, rfl⟩ (fun _ _ _ => rfl)
    have hB1 : BXL f fst bl s1 := ⟨hB.1.W a4, (a4.1 74 rfl 14).trans b6, by rw [a4.ln, a4.ln]; exact b7⟩
    obtain ⟨σ', z1, z2, z3, z4, z5, z6⟩ := ih (i + 1) (wr s1 82 (fst + k) (rd s1 76 i)) (jk (dj v2)) (by omega) (by omega) hT2 a3.wr ⟨by rw [w1.1 74 rfl, a4.1 74 rfl]; exact hQ.1, by show n ≤ ln s1 75; rw [a4.ln]; exact hQ.2.1, by show ln s1 76 = ln s1 75; rw [a4.ln, a4.ln]; exact hQ.2.2.1, fun i hi => by rw [w1.1 75 rfl, a4.1 75 rfl]; exact hQ.2.2.2 i hi⟩ ⟨⟨by rw [w1.1 79 rfl]; exact hB1.1.1, by rw [w1.1 80 rfl]; exact hB1.1.2.1, hB1.1.2.2.1, hB1.1.2.2.2.1, fun i hi => by rw [w1.1 81 rfl]; exact hB1.1.2.2.2.2 i hi⟩, by rw [w1.1 74 rfl]; exact hB1.2.1, hB1.2.2⟩ (w.trans ((a4.sub rfl).trans (w1.sub rfl))) (fun k' i' q1 q2 q3 q4 => by
      by_cases g : k' = k
      · rw [g, wr_self]; exact e76
      · rw [wr_nei (by omega), a4.1 82 rfl]
        by_cases g2 : i' = i
        · rw [g2] at q4
          exact absurd (bl_at hd q3 k1 (q4.trans k2.symm)) g
        · exact h1 k' i' q1 (by omega) q3 q4) (fun q hq => by rw [wr_nei (by omega), a4.1 82 rfl]; exact h2 q hq)
    refine ⟨σ', ?_, z2, z3, z4, z5, z6⟩
    rw [e172_2 (d + 2), hQ.1, c2_ge (by omega) (by omega) (by omega) (by omega), c_f (by omega), c_in (by omega) (by omega) (by omega), c_in (by omega) (by omega) (by omega), i32_ixn (by omega), i32_ixn (by omega), hQ.2.2.2 i (by omega), bI_ok a1, rh82]
    have hbeq : (Nat.beq (rh σ 82) (rh σ 82) && true) = true := by rw [Nat.beq_refl]; rfl
    rw [hbeq, cond_true, c_in (by omega) (by omega) (by omega), b1, ei, c_in (by omega) (by omega) (by omega), i32_ixn (by omega), i32_up]
    exact z1
end SETTLE
