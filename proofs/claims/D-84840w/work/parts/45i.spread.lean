/-! REGIONS, THE MODEL: what is reached -/
section REACHM
variable {L : Nat} {xs : Nat → Int32} {σ σ' : tvS}
/-- frames with longs -/
def frX (S F LS : List Nat) (σ σ' : tvS) : Prop := (∀ j, inL (123 :: S) j = false → ∀ i, rd σ' j i = rd σ j i) ∧ (∀ i, inL F i = false → rd σ' 123 i = rd σ 123 i) ∧ (∀ j, inL LS j = false → ∀ i, rl σ' j i = rl σ j i) ∧ σ'.2.2 = σ.2.2
theorem frX.refl {S F LS : List Nat} : frX S F LS σ σ := ⟨fun _ _ _ => rfl, fun _ _ => rfl, fun _ _ _ => rfl, rfl⟩
theorem frX.trans {S F LS : List Nat} {a b e : tvS} (h : frX S F LS a b) (g : frX S F LS b e) : frX S F LS a e := ⟨fun j hj i => (g.1 j hj i).trans (h.1 j hj i), fun i hi => (g.2.1 i hi).trans (h.2.1 i hi), fun j hj i => (g.2.2.1 j hj i).trans (h.2.2.1 j hj i), g.2.2.2.trans h.2.2.2⟩
theorem frX.sub {S F LS S' F' LS' : List Nat} {a b : tvS} (h : frX S F LS a b) (hs : (S.all fun k => inL S' k) = true) (hf : (F.all fun k => inL F' k) = true) (hl : (LS.all fun k => inL LS' k) = true) : frX S' F' LS' a b :=
  ⟨fun j hj i => h.1 j (by
    have hj : (Nat.beq j 123 || inL S' j) = false := hj
    show (Nat.beq j 123 || inL S j) = false
    rw [Bool.or_eq_false_iff] at hj ⊢
    exact ⟨hj.1, inL_sub hs j hj.2⟩) i, fun i hi => h.2.1 i (inL_sub hf i hi), fun j hj i => h.2.2.1 j (inL_sub hl j hj) i, h.2.2.2⟩
theorem frM.X {S F : List Nat} (LS : List Nat) (h : frM S F σ σ') : frX S F LS σ σ' := ⟨h.1.1, h.2, fun j _ i => by unfold rl; rw [h.1.2], by rw [h.1.2]⟩
theorem frX.rd {S F LS : List Nat} (h : frX S F LS σ σ') {j : Nat} (hj : inL (123 :: S) j = false) (i : Nat) : rd σ' j i = rd σ j i := h.1 j hj i
/-- as if longs were not there -/
theorem frX.M {S F LS : List Nat} (h : frX S F LS σ σ') : frM S F σ (σ'.1, σ.2) := ⟨⟨h.1, rfl⟩, h.2.1⟩
theorem frX_wl {S F LS : List Nat} {k i : Nat} {x : Int64} (h : inL LS k = true) : frX S F LS σ (wl σ k i x) := by
  refine ⟨fun _ _ _ => rfl, fun _ _ => rfl, fun j hj i' => ?_, rfl⟩
  have : j ≠ k := fun e => by rw [e, h] at hj; cases hj
  rw [rl_wl, if_neg (fun q => this q.1)]
theorem meets_J {N : Nat} {G : tG} {r : Nat → Nat} {S x : Nat} {W : List Nat} (h : rwI N G r S W σ) (hS : S < 2147483648) (hl : W.length < 100000) (hx : x < N) (d : Nat) (v3 : Value) :
    ∃ σ' W', rn L xs (d + 2) 343 0 [.ref 123, .int (i32 x), .int (i32 (W.length : Int)), v3] [] σ = some (.inl (some (.int (i32 (W'.length : Int)))), σ') ∧ rwI N G r S W' σ' ∧ frM [169, 171, 176] [] σ σ' ∧ ((W' = W ∧ mkd S σ (r x)) ∨ (W' = r x :: W ∧ ¬ mkd S σ (r x))) ∧ (∀ y, mkd S σ' y ↔ mkd S σ y ∨ y = r x) := by
  obtain ⟨hT, hM, hW, hd, hm⟩ := h
  obtain ⟨σ', W', a1, a2, a3, a4, a5, a6, a7⟩ := meets_m (L := L) (xs := xs) hT hM hS hW hl hx d v3
  have hr := hT.rlt hx
  rcases a6 with ⟨e, m1, m2⟩ | ⟨e, m1, m2, m3⟩
  · have mk : ∀ y, mkd S σ' y ↔ mkd S σ y := fun y => by unfold mkd; rw [m2]
    refine ⟨σ', W', a1, ⟨a2, a3, a4, by rw [e]; exact hd, fun y hy => by rw [e] at hy; rw [mk]; exact hm y hy⟩, a5, .inl ⟨e, m1⟩, fun y => ?_⟩
    rw [mk]; exact ⟨.inl, fun q => q.elim id (fun q => q ▸ m1)⟩
  · have mk : ∀ y, mkd S σ' y ↔ mkd S σ y ∨ y = r x := fun y => by
      by_cases q : y = r x
      · rw [q]; exact ⟨fun _ => .inr rfl, fun _ => m2⟩
      · unfold mkd; rw [m3 y q]; exact ⟨.inl, fun k => k.elim id (fun k => absurd k q)⟩
    refine ⟨σ', W', a1, ⟨a2, a3, a4, by rw [e]; exact List.nodup_cons.mpr ⟨fun k => m1 (hm _ k).2.2, hd⟩, fun y hy => ?_⟩, a5, .inr ⟨e, m1⟩, mk⟩
    rw [e] at hy
    rcases List.mem_cons.mp hy with q | q
    · rw [q]; exact ⟨hr, hT.rr hx, m2⟩
    · obtain ⟨h1, h2, h3⟩ := hm y q
      exact ⟨h1, h2, (mk y).mpr (.inl h3)⟩
/-- what one type leads to comes to the row -/
theorem spread_held {N : Nat} {G : tG} {r : Nat → Nat} {S : Nat} {hv : Nat → Nat} (hS : S < 2147483648) (hN : N < 100000) (d : Nat) : ∀ (l W : List Nat) (σ : tvS) (x4 : Int32) (v1 v2 : Value), rwI N G r S W σ → (∀ i, i ∈ l → i < 250000 ∧ rd σ 174 i = i32 (hv i : Int) ∧ hv i < N) → chW σ l x4 →
    ∃ σ' W', rn L xs (d + 3) 354 60 [.ref 123, v1, v2, .int (i32 (W.length : Int)), .int x4] [] σ = some (.inl (some (.int (i32 (W'.length : Int)))), σ') ∧ rwI N G r S W' σ' ∧ frM [169, 171, 176] [] σ σ' ∧ (∀ y, mkd S σ' y ↔ mkd S σ y ∨ ∃ i, i ∈ l ∧ y = r (hv i)) ∧ ∃ lw, W' = lw ++ W ∧ (∀ y, y ∈ lw → ¬ mkd S σ y) ∧ ∀ y, mkd S σ' y → mkd S σ y ∨ y ∈ lw := by
  intro l
  induction l with
  | nil =>
    intro W σ x4 v1 v2 hI _ hc
    have hc : x4 = i32 (-1) := hc
    refine ⟨σ, W, ?_, hI, frM.refl, fun y => ⟨.inl, fun k => k.elim id (fun ⟨i, hi, _⟩ => by cases hi)⟩, [], rfl, (fun y hy => by cases hy), fun y k => .inl k⟩
    rw [e354_60, hc, i32_raw, c2_refl, e354_91]
  | cons i l ih =>
    intro W σ x4 v1 v2 hI hl hc
    obtain ⟨g1, g2, g3⟩ := hl i List.mem_cons_self
    obtain ⟨c1, c2⟩ := hc
    have hWl := rw_len (N := N) (S := S) hI.2.2.2.1 (fun y hy => (hI.2.2.2.2 y hy).1)
    obtain ⟨s1, W1, a1, a2, a3, a4, a5⟩ := meets_J (L := L) (xs := xs) hI hS (by omega) g3 d jv
    have a1' : rn L xs (d + 2) 343 0 [.ref 123, .int (i32 (hv i : Int)), .int (i32 (W.length : Int)), jv] [] σ = some (.inl (some (.int (i32 (W1.length : Int)))), s1) := a1
    obtain ⟨σ', W', z1, z2, z3, z4, lw, z5, z6, z7⟩ := ih W1 s1 (rd s1 175 i) (dj v1) (jk (dj v2)) a2 (fun j hj => by rw [a3.rd (j := 174) rfl]; exact hl j (List.mem_cons_of_mem _ hj)) (by rw [a3.rd (j := 175) rfl]; exact c2.congr (fun j _ => a3.rd (j := 175) rfl j))
    refine ⟨σ', W', ?_, z2, a3.trans z3, fun y => ?_, ?_⟩
    · rw [e354_60 (d + 2), c1, i32_raw, c2_eq (by omega) (by omega) (by omega) (by omega), c_f (by omega), c_in (by omega) (by omega) (by omega), i32_ixn (by omega), g2, bI_ok a1', c_in (by omega) (by omega) (by omega)]
      exact z1
    · rw [z4 y, a5 y]
      constructor
      · rintro ((k | k) | ⟨j, j1, j2⟩)
        · exact .inl k
        · exact .inr ⟨i, List.mem_cons_self, k⟩
        · exact .inr ⟨j, List.mem_cons_of_mem _ j1, j2⟩
      · rintro (k | ⟨j, j1, j2⟩)
        · exact .inl (.inl k)
        · rcases List.mem_cons.mp j1 with e | e
          · rw [e] at j2; exact .inl (.inr j2)
          · exact .inr ⟨j, e, j2⟩
    · rcases a4 with ⟨e, e2⟩ | ⟨e, e2⟩
      · refine ⟨lw, by rw [z5, e], fun y hy k => z6 y hy ((a5 y).mpr (.inl k)), fun y k => ?_⟩
        rcases z7 y k with k | k
        · rcases (a5 y).mp k with k | k
          · exact .inl k
          · rw [k]; exact .inl e2
        · exact .inr k
      · refine ⟨lw ++ [r (hv i)], by rw [z5, e, List.append_assoc]; rfl, fun y hy k => ?_, fun y k => ?_⟩
        · rcases List.mem_append.mp hy with q | q
          · exact z6 y q ((a5 y).mpr (.inl k))
          · rw [List.mem_singleton.mp q] at k; exact e2 k
        · rcases z7 y k with k | k
          · rcases (a5 y).mp k with k | k
            · exact .inl k
            · rw [k]; exact .inr (List.mem_append_right _ List.mem_cons_self)
          · exact .inr (List.mem_append_left _ k)
theorem spread_m {N : Nat} {G : tG} {r : Nat → Nat} {S H t : Nat} {hl : Nat → List Nat} {hv : Nat → Nat} {W : List Nat} (h : rwI N G r S W σ) (hH : HM N r hl hv H σ) (hS : S < 2147483648) (hN : N < 100000) (ht : t < N) (hr : r t = t) (hk : 2 ≤ G.1 t) (d : Nat) (v3 v4 : Value) :
    ∃ σ' W', rn L xs (d + 3) 354 0 [.ref 123, .int (i32 (t : Int)), .int (i32 (W.length : Int)), v3, v4] [] σ = some (.inl (some (.int (i32 (W'.length : Int)))), σ') ∧ rwI N G r S W' σ' ∧ HM N r hl hv H σ' ∧ frM [169, 171, 176] [] σ σ' ∧ (∀ y, mkd S σ' y ↔ mkd S σ y ∨ ∃ z, scs G hl hv t z ∧ y = r z) ∧ ∃ lw, W' = lw ++ W ∧ (∀ y, y ∈ lw → ¬ mkd S σ y) ∧ ∀ y, mkd S σ' y → mkd S σ y ∨ y ∈ lw := by
  obtain ⟨b1, b2, b3⟩ := h.1.2.2.2.2.2.1 t ht
  obtain ⟨b4, b5, b6⟩ := b3 hk
  have hWl := rw_len (N := N) (S := S) h.2.2.2.1 (fun y hy => (h.2.2.2.2 y hy).1)
  obtain ⟨s1, W1, a1, a2, a3, a4, a5⟩ := meets_J (L := L) (xs := xs) h hS (by omega) b5 d jv
  have hWl1 := rw_len (N := N) (S := S) a2.2.2.2.1 (fun y hy => (a2.2.2.2.2 y hy).1)
  -- what arrows hold, behind the parts
  have fin : ∀ (s2 : tvS) (W2 : List Nat) (u2 : Value), rwI N G r S W2 s2 → frM [169, 171, 176] [] σ s2 → (∀ y, mkd S s2 y ↔ mkd S σ y ∨ ∃ z, z ∈ kids G t ∧ y = r z) → (∃ lw, W2 = lw ++ W ∧ (∀ y, y ∈ lw → ¬ mkd S σ y) ∧ ∀ y, mkd S s2 y → mkd S σ y ∨ y ∈ lw) → ∀ v3' v4', rn L xs (d + 3) 354 0 [.ref 123, .int (i32 (t : Int)), .int (i32 (W.length : Int)), v3, v4] [] σ = rn L xs (d + 3) 354 51 [.ref 123, .int (i32 (t : Int)), u2, v3', v4'] [.int (i32 (W2.length : Int))] s2 → ∃ σ' W', rn L xs (d + 3) 354 0 [.ref 123, .int (i32 (t : Int)), .int (i32 (W.length : Int)), v3, v4] [] σ = some (.inl (some (.int (i32 (W'.length : Int)))), σ') ∧ rwI N G r S W' σ' ∧ HM N r hl hv H σ' ∧ frM [169, 171, 176] [] σ σ' ∧ (∀ y, mkd S σ' y ↔ mkd S σ y ∨ ∃ z, scs G hl hv t z ∧ y = r z) ∧ ∃ lw, W' = lw ++ W ∧ (∀ y, y ∈ lw → ¬ mkd S σ y) ∧ ∀ y, mkd S σ' y → mkd S σ y ∨ y ∈ lw := by
    intro s2 W2 u2 hI2 w2 m2 l2 v3' v4' hrun
    have hH2 : HM N r hl hv H s2 := hH.fr w2 rfl ⟨rfl, rfl, rfl⟩
    obtain ⟨h1, h2, h3⟩ := hH2.2.2.2.1 t ht hr
    have hHm := hH2.2.1
    obtain ⟨σ', W', z1, z2, z3, z4, lw, z5, z6, z7⟩ := spread_held (L := L) (xs := xs) (hv := hv) hS hN d (hl t) W2 s2 (rd s2 170 t) (.int (i32 (t : Int))) (jk u2) hI2 (fun i hi => ⟨by have := h3 i hi; omega, hH2.2.2.1 i (h3 i hi)⟩) h1
    refine ⟨σ', W', ?_, z2, hH2.fr z3 rfl ⟨rfl, rfl, rfl⟩, w2.trans z3, fun y => ?_, ?_⟩
    · rw [hrun, e354_51, c_in (by omega) (by omega) (by omega), i32_ixn (by omega)]; exact z1
    · rw [z4 y, m2 y]
      constructor
      · rintro ((k | ⟨z, k1, k2⟩) | ⟨j, j1, j2⟩)
        · exact .inl k
        · exact .inr ⟨z, .inl k1, k2⟩
        · exact .inr ⟨hv j, .inr ⟨j, j1, rfl⟩, j2⟩
      · rintro (k | ⟨z, k1 | ⟨j, j1, j2⟩, k2⟩)
        · exact .inl (.inl k)
        · exact .inl (.inr ⟨z, k1, k2⟩)
        · exact .inr ⟨j, j1, by rw [j2]; exact k2⟩
    · obtain ⟨lw2, e1, e2, e3⟩ := l2
      refine ⟨lw ++ lw2, by rw [z5, e1, List.append_assoc], fun y hy k => ?_, fun y k => ?_⟩
      · rcases List.mem_append.mp hy with q | q
        · exact z6 y q ((m2 y).mpr (.inl k))
        · exact e2 y q k
      · rcases z7 y k with k | k
        · exact (e3 y k).imp id (fun k => List.mem_append_right _ k)
        · exact .inr (List.mem_append_left _ k)
  have e0 : rn L xs (d + 3) 354 0 [.ref 123, .int (i32 (t : Int)), .int (i32 (W.length : Int)), v3, v4] [] σ = cond (pv_c2 .eq (rd s1 166 t) 3) (rn L xs (d + 3) 354 50 [.ref 123, .int (i32 (t : Int)), (jk (dj (.int (i32 (W.length : Int))))), .int (i32 (W1.length : Int)), (dj v4)] [] s1) (cond (pv_in (i32 (t : Int)) 100000) (bI (rn L xs (d + 2) 343 0 [.ref 123, .int (rd s1 168 t), .int (i32 (W1.length : Int)), jv] [] s1) (fun a4 s3 => rn L xs (d + 3) 354 51 [.ref 123, .int (i32 (t : Int)), (dj (jk (dj (.int (i32 (W.length : Int)))))), .int (i32 (W1.length : Int)), (dj (dj v4))] [.int a4] s3) X0) none) := by
    rw [e354_0, c_in (by omega) (by omega) (by omega), i32_ixn (by omega), b1, show (2 : Int32) = i32 2 from rfl, c2_ge (by omega) (by omega) (by omega) (by omega), c_t (by omega), e354_14 (d + 2), c_in (by omega) (by omega) (by omega), i32_ixn (by omega), b4, bI_ok a1, c_in (by omega) (by omega) (by omega)]
  have l1 : ∃ lw, W1 = lw ++ W ∧ (∀ y, y ∈ lw → ¬ mkd S σ y) ∧ ∀ y, mkd S s1 y → mkd S σ y ∨ y ∈ lw := by
    rcases a4 with ⟨e, e2⟩ | ⟨e, e2⟩
    · exact ⟨[], e, (fun y hy => by cases hy), fun y k => ((a5 y).mp k).elim .inl (fun k => .inl (by rw [k]; exact e2))⟩
    · exact ⟨[r (G.2.1 t)], e, (fun y hy => by rw [List.mem_singleton.mp hy]; exact e2), fun y k => ((a5 y).mp k).imp id (fun k => by rw [k]; exact List.mem_cons_self)⟩
  have r166 : rd s1 166 t = i32 (G.1 t : Int) := (a3.rd (j := 166) rfl t).trans b1
  by_cases h3 : G.1 t = 3
  · refine fin s1 W1 (jk (dj (.int (i32 (W.length : Int))))) a2 a3 (fun y => ?_) l1 (.int (i32 (W1.length : Int))) (dj v4) ?_
    · rw [a5 y]
      unfold kids
      rw [if_pos h3]
      exact ⟨fun k => k.imp id (fun k => ⟨_, List.mem_cons_self, k⟩), fun k => k.imp id (fun ⟨z, k1, k2⟩ => by rw [List.mem_singleton.mp k1] at k2; exact k2)⟩
    · rw [e0, r166, show (3 : Int32) = i32 3 from rfl, c2_eq (by omega) (by omega) (by omega) (by omega), c_t (by omega), e354_50]
  · obtain ⟨b7, b8⟩ := b6 h3
    obtain ⟨s2, W2, p1, p2, p3, p4, p5⟩ := meets_J (L := L) (xs := xs) a2 hS (by omega) b8 d jv
    have r168 : rd s1 168 t = i32 (G.2.2 t : Int) := (a3.rd (j := 168) rfl t).trans b7
    refine fin s2 W2 (dj (jk (dj (.int (i32 (W.length : Int)))))) p2 (a3.trans p3) (fun y => ?_) ?_ (.int (i32 (W1.length : Int))) (dj (dj v4)) ?_
    · rw [p5 y, a5 y]
      unfold kids
      rw [if_neg h3]
      constructor
      · rintro ((k | k) | k)
        · exact .inl k
        · exact .inr ⟨_, List.mem_cons_of_mem _ List.mem_cons_self, k⟩
        · exact .inr ⟨_, List.mem_cons_self, k⟩
      · rintro (k | ⟨z, k1, k2⟩)
        · exact .inl (.inl k)
        · rcases List.mem_cons.mp k1 with e | e
          · rw [e] at k2; exact .inr k2
          · rw [List.mem_singleton.mp e] at k2; exact .inl (.inr k2)
    · obtain ⟨lw, e1, e2, e2'⟩ := l1
      rcases p4 with ⟨e, e3⟩ | ⟨e, e3⟩
      · exact ⟨lw, by rw [e, e1], e2, fun y k => ((p5 y).mp k).elim (e2' y) (fun k => by rw [k]; exact e2' _ e3)⟩
      · refine ⟨r (G.2.2 t) :: lw, by rw [e, e1]; rfl, fun y hy => ?_, fun y k => ?_⟩
        · rcases List.mem_cons.mp hy with q | q
          · rw [q]; exact fun k => e3 ((a5 _).mpr (.inl k))
          · exact e2 y q
        · rcases (p5 y).mp k with k | k
          · exact (e2' y k).imp id (fun k => List.mem_cons_of_mem _ k)
          · rw [k]; exact .inr List.mem_cons_self
    · rw [e0, r166, show (3 : Int32) = i32 3 from rfl, c2_eq (by omega) (by omega) (by omega) (by omega), c_f (by omega), c_in (by omega) (by omega) (by omega), r168, bI_ok p1]
end REACHM
