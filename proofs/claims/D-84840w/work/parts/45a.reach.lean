/-! REGIONS, THE COMPONENT: what is reached -/
section REACHC
variable {L : Nat} {xs : Nat → Int32} {σ σ' : tvS}
/-- what a type leads to -/
def scs (G : tG) (hl : Nat → List Nat) (hv : Nat → Nat) (t z : Nat) : Prop := z ∈ kids G t ∨ ∃ i, i ∈ hl t ∧ hv i = z
/-- in the midst of reaching: those that are stamped -/
def RCH (K1 K2 N : Nat) (G : tG) (r : Nat → Nat) (hl : Nat → List Nat) (hv : Nat → Nat) (H S : Nat) (ML : List Nat) (σ : tvS) : Prop :=
  (TC N G r σ ∧ HO N r hl hv H σ ∧ ROOM K1 K2 σ) ∧ (rd σ 50 12 = i32 (S : Int) ∧ S < 2147483648) ∧ (∀ x, x < N → ∃ s : Nat, s ≤ S ∧ rd σ 57 x = i32 (s : Int) ∧ (s = S ↔ x ∈ ML)) ∧ ML.Nodup ∧ (∀ x, x ∈ ML → x < N ∧ r x = x) ∧ rd σ 50 15 = i32 (ML.length : Int)
theorem no58 {j : Nat} (h1 : 51 ≤ j) (h2 : j ≤ 58) : inL [61] j = false := by
  have : j = 51 ∨ j = 52 ∨ j = 53 ∨ j = 54 ∨ j = 55 ∨ j = 56 ∨ j = 57 ∨ j = 58 := by omega
  rcases this with h | h | h | h | h | h | h | h <;> subst h <;> rfl
theorem RCH.push {K1 K2 N : Nat} {G : tG} {r : Nat → Nat} {hl : Nat → List Nat} {hv : Nat → Nat} {H S : Nat} {ML : List Nat} (h : RCH K1 K2 N G r hl hv H S ML σ) (w : frT [61] [61] [14] σ σ') (hR : ROOM K1 K2 σ') : RCH K1 K2 N G r hl hv H S ML σ' := by
  obtain ⟨⟨a1, a2, a3⟩, ⟨b1, b2⟩, c, d, e, g⟩ := h
  exact ⟨⟨a1.T w rfl ⟨rfl, rfl, rfl, rfl⟩ (fun _ h1 h2 => no58 h1 h2), a2.T w rfl ⟨rfl, rfl, rfl, rfl⟩ ⟨rfl, rfl⟩, hR⟩, ⟨(w.2 12 rfl).trans b1, b2⟩, fun x hx => by rw [w.rd (j := 57) rfl]; exact c x hx, d, e, (w.2 15 rfl).trans g⟩
theorem RCH.pop {K1 K2 N : Nat} {G : tG} {r : Nat → Nat} {hl : Nat → List Nat} {hv : Nat → Nat} {H S : Nat} {ML : List Nat} {x : Int32} (h : RCH K1 K2 N G r hl hv H S ML σ) : RCH K1 K2 N G r hl hv H S ML (wr σ 50 14 x) :=
  h.push ⟨frG_wr rfl, fun i hi => wr_nei (fun e => by rw [e] at hi; cases hi)⟩ h.1.2.2.wr
theorem RCH.find {K1 K2 N : Nat} {G : tG} {r : Nat → Nat} {hl : Nat → List Nat} {hv : Nat → Nat} {H S : Nat} {ML : List Nat} (h : RCH K1 K2 N G r hl hv H S ML σ) (hT : TC N G r σ') (hR : ROOM K1 K2 σ') (w : frW [52] σ σ') : RCH K1 K2 N G r hl hv H S ML σ' := by
  obtain ⟨⟨a1, a2, a3⟩, ⟨b1, b2⟩, c, d, e, g⟩ := h
  exact ⟨⟨hT, a2.fr (w.G []) (w.1 50 rfl 11) ⟨rfl, rfl, rfl, rfl⟩ ⟨rfl, rfl⟩, hR⟩, ⟨(w.1 50 rfl 12).trans b1, b2⟩, fun x hx => by rw [w.1 57 rfl]; exact c x hx, d, e, (w.1 50 rfl 15).trans g⟩
/-- what an arrow holds comes to the row -/
theorem rch_held {K1 K2 H : Nat} {hv : Nat → Nat} (d : Nat) (x2 : Int32) : ∀ (l W : List Nat) (σ : tvS) (x4 : Int32) (v1 v3 : Value), ROOM K1 K2 σ → WK (ints W) σ → W.length + l.length < 524288 → H ≤ ln σ 59 → ln σ 60 = ln σ 59 → (∀ i, i ∈ l → i < H ∧ rd σ 59 i = i32 (hv i : Int)) → chL σ l x4 →
    ∃ σ' w1 w3, rn L xs (d + 2) 99 93 [.ref 50, v1, .int x2, v3, .int x4] [] σ = rn L xs (d + 2) 99 10 [.ref 50, w1, .int x2, w3, .int (i32 (-1))] [] σ' ∧ WK (ints ((l.map hv).reverse ++ W)) σ' ∧ ROOM K1 K2 σ' ∧ frT [61] [61] [14] σ σ' := by
  intro l
  induction l with
  | nil =>
    intro W σ x4 v1 v3 hR hW _ _ _ _ hc
    refine ⟨σ, v1, v3, ?_, hW, hR, frT.refl⟩
    rw [e99_93, show x4 = i32 (-1) from hc, i32_raw, c2_refl, e99_122]
  | cons i l ih =>
    intro W σ x4 v1 v3 hR hW hn h59 h60 hl hc
    obtain ⟨h1, h2⟩ := hl i List.mem_cons_self
    have b59 := hR.le (k := 59) (M := 212992) (by decide)
    obtain ⟨c1, c2⟩ := hc
    have hn : W.length + (l.length + 1) < 524288 := hn
    obtain ⟨s1, p1, q1, R1, w1⟩ := push_T (L := L) (xs := xs) hR hW (by show (ints W).length < _; unfold ints; rw [List.length_map]; omega) (hv i : Int) d
    have n60 := (w1.1.2.2 60 rfl).1
    have n59 := (w1.1.2.2 59 rfl).1
    obtain ⟨σ', u1, u3, z1, z2, z3, z4⟩ := ih (hv i :: W) s1 (rd s1 60 i) (dj v1) (jk (dj v3)) R1 q1 (by show W.length + 1 + l.length < _; omega) (by rw [n59]; exact h59) (by rw [n59, n60]; exact h60) (fun j hj => by rw [w1.rd (j := 59) rfl]; exact hl j (List.mem_cons_of_mem _ hj)) (by rw [w1.rd (j := 60) rfl]; exact c2.congr (fun j _ => w1.rd (j := 60) rfl j))
    refine ⟨σ', u1, u3, ?_, ?_, z3, w1.trans z4⟩
    · rw [e99_93 (d + 1), c1, i32_raw, c2_eq (by omega) (by omega) (by omega) (by omega), c_f (by omega), c_in (by omega) (by omega) (by omega), i32_ixn (by omega), h2, bV_ok p1, c_in (by omega) (by omega) (by omega)]
      exact z1
    · rw [List.map_cons, List.reverse_cons, List.append_assoc]; exact z2
theorem flat_len {N H : Nat} {r : Nat → Nat} {hl : Nat → List Nat} {hv : Nat → Nat} (hH : HO N r hl hv H σ) : ∀ ML : List Nat, ML.Nodup → (∀ x, x ∈ ML → x < N ∧ r x = x) → (ML.flatMap hl).Nodup ∧ (∀ i, i ∈ ML.flatMap hl → i < H) ∧ (ML.flatMap hl).length ≤ H := by
  intro ML hd hm
  have key : (ML.flatMap hl).Nodup ∧ ∀ i, i ∈ ML.flatMap hl → i < H := by
    induction ML with
    | nil => exact ⟨List.nodup_nil, fun i hi => (by cases hi)⟩
    | cons t ML ih =>
      rw [List.nodup_cons] at hd
      obtain ⟨t1, t2⟩ := hm t List.mem_cons_self
      obtain ⟨b1, b2, b3, _⟩ := hH.2.2.2.2.1 t t1 t2
      obtain ⟨i1, i2⟩ := ih hd.2 (fun x hx => hm x (List.mem_cons_of_mem _ hx))
      rw [List.flatMap_cons]
      refine ⟨List.nodup_append.mpr ⟨b2, i1, fun a ha b hb e => ?_⟩, fun i hi => ?_⟩
      · obtain ⟨s, s1, s2⟩ := List.mem_flatMap.mp hb
        obtain ⟨m1, m2⟩ := hm s (List.mem_cons_of_mem _ s1)
        rw [e] at ha
        have := hH.2.2.2.2.2 t s b t1 m1 t2 m2 ha s2
        rw [this] at hd
        exact hd.1 s1
      · rcases List.mem_append.mp hi with h | h
        · exact b3 i h
        · exact i2 i h
  refine ⟨key.1, key.2, ?_⟩
  have := nodup_len (ML.flatMap hl) (List.range H) key.1 (fun i hi => List.mem_range.mpr (key.2 i hi))
  rw [List.length_range] at this
  exact this
theorem nodup_lt {N : Nat} {ML : List Nat} (hd : ML.Nodup) (hm : ∀ x, x ∈ ML → x < N) : ML.length ≤ N := by
  have := nodup_len ML (List.range N) hd (fun i hi => List.mem_range.mpr (hm i hi))
  rw [List.length_range] at this
  exact this
theorem mu_step {N m n k w : Nat} (h : m + 1 ≤ N) (hn : (N - m) * 600000 + (w + 1) ≤ n + 1) (hk : k ≤ 600000 + w) : (N - (m + 1)) * 600000 + k ≤ n := by
  have h1 : N - m = N - (m + 1) + 1 := by clear hn; omega
  rw [h1, Nat.succ_mul] at hn
  generalize (N - (m + 1)) * 600000 = q at hn ⊢
  omega
theorem reach_loop {K1 K2 N M : Nat} {G : tG} {r : Nat → Nat} {hl : Nat → List Nat} {hv : Nat → Nat} {H S : Nat} (hrr : ∀ x, x < N → r (r x) = r x) (RX : Nat → Prop) (hRX : ∀ t z, RX t → t < N → r t = t → 2 ≤ G.1 t → scs G hl hv t z → RX (r z)) (hM : M ≤ 1000000) (d : Nat) : ∀ (n : Nat) (W ML : List Nat) (σ : tvS) (v1 v3 v4 : Value), (N - ML.length) * 600000 + W.length ≤ n → RCH K1 K2 N G r hl hv H S ML σ → WK (ints W) σ → (∀ z, z ∈ W → z < N ∧ RX (r z)) → (∀ t, t ∈ ML → 2 ≤ G.1 t ∧ RX t) → (ML.length ≤ M → ∀ t, t ∈ ML → ∀ z, scs G hl hv t z → G.1 (r z) < 2 ∨ r z ∈ ML ∨ z ∈ W) → W.length ≤ 1 + 2 * ML.length + (ML.flatMap hl).length →
    ∃ (σ' : tvS) (ML' : List Nat), rn L xs (d + 3) 99 10 [.ref 50, v1, .int (i32 (M : Int)), v3, v4] [] σ = some (.inl none, σ') ∧ RCH K1 K2 N G r hl hv H S ML' σ' ∧ (∀ t, t ∈ ML → t ∈ ML') ∧ (∀ t, t ∈ ML' → 2 ≤ G.1 t ∧ RX t) ∧ (ML'.length ≤ M → (∀ t, t ∈ ML' → ∀ z, scs G hl hv t z → G.1 (r z) < 2 ∨ r z ∈ ML') ∧ ∀ z, z ∈ W → G.1 (r z) < 2 ∨ r z ∈ ML') ∧ (ML.length ≤ M + 1 → ML'.length ≤ M + 1) ∧ frT [52, 57, 61] [61] [14, 15] σ σ' := by
  intro n
  induction n with
  | zero =>
    intro W ML σ v1 v3 v4 hn hC hW hz hm hc hb
    have e : W = [] := List.eq_nil_of_length_eq_zero (by omega)
    subst e
    refine ⟨σ, ML, ?_, hC, fun _ h => h, hm, fun h => ⟨fun t ht z hs => (hc h t ht z hs).elim .inl (fun k => k.elim .inr (fun k => by cases k)), fun z hz => by cases hz⟩, id, frT.refl⟩
    have h14 : rd σ 50 14 = i32 0 := hW.1
    rw [e99_10, h14, show pv_c1 .le (i32 0) = true from rfl, cond_true, e99_125]
  | succ n ih =>
    intro W ML σ v1 v3 v4 hn hC hW hz hm hc hb
    cases W with
    | nil =>
      refine ⟨σ, ML, ?_, hC, fun _ h => h, hm, fun h => ⟨fun t ht z hs => (hc h t ht z hs).elim .inl (fun k => k.elim .inr (fun k => by cases k)), fun z hz => by cases hz⟩, id, frT.refl⟩
      have h14 : rd σ 50 14 = i32 0 := hW.1
      rw [e99_10, h14, show pv_c1 .le (i32 0) = true from rfl, cond_true, e99_125]
    | cons z W =>
      obtain ⟨⟨t1, t2, t3⟩, ⟨t4, t5⟩, t6, t7, t8, t9⟩ := id hC
      have hN := t1.lt t3
      have hML := nodup_lt t7 (fun x hx => (t8 x hx).1)
      have hfl := (flat_len t2 ML t7 t8).2.2
      have b59 := t3.le (k := 59) (M := 212992) (by decide)
      have b51 := t3.le (k := 51) (M := 122880) (by decide)
      have b61 := t3.le (k := 61) (M := 524288) (by decide)
      have l51 := t1.2.2.1
      have hH59 := t2.2.1
      have hwl : (ints (z :: W)).length = W.length + 1 := by unfold ints; rw [List.length_map]; rfl
      have hb : W.length + 1 ≤ 1 + 2 * ML.length + (ML.flatMap hl).length := hb
      have hn : (N - ML.length) * 600000 + (W.length + 1) ≤ n + 1 := hn
      have h14 : rd σ 50 14 = i32 ((W.length + 1 : Nat) : Int) := by rw [hW.1, hwl]
      have g1 : pv_c1 .le (i32 ((W.length + 1 : Nat) : Int)) = false := by
        rw [c1_le (by omega) (by omega)]
        exact decide_eq_false (by omega)
      by_cases hst : M < ML.length
      · refine ⟨σ, ML, ?_, hC, fun _ h => h, hm, fun h => by omega, id, frT.refl⟩
        rw [e99_10, h14, g1, cond_false, t9, c2_gt (by omega) (by omega) (by omega) (by omega), c_t (by omega), e99_125]
      · obtain ⟨p1, p2⟩ := pop_c (L := L) (xs := xs) hW (by omega) (d + 1)
        have p1 : rn L xs (d + 2) 87 0 [.ref 50] [] σ = some (.inl (some (.int (i32 (z : Int)))), wr σ 50 14 (i32 ((ints W).length : Int))) := p1
        have p2 : WK (ints W) (wr σ 50 14 (i32 ((ints W).length : Int))) := p2
        have hC1 := hC.pop (x := i32 ((ints W).length : Int))
        obtain ⟨z1, z2⟩ := hz z List.mem_cons_self
        obtain ⟨s1, f1, f2, f3, f4⟩ := find_C (L := L) (xs := xs) hC1.1.1 hC1.1.2.2 z1 (d + 1) jv jv jv
        have hC2 := hC1.find f2 f3 f4
        have hW2 : WK (ints W) s1 := p2.fr f4 rfl rfl
        have hrz := t1.rlt z1
        have ew : frT [52, 57, 61] [61] [14, 15] σ s1 := (show frT [52, 57, 61] [61] [14, 15] σ (wr σ 50 14 (i32 ((ints W).length : Int))) from ⟨frG_wr rfl, fun i hi => wr_nei (fun e => by rw [e] at hi; cases hi)⟩).trans ((f4.T [61] [14, 15] rfl).sub rfl rfl rfl)
        obtain ⟨u1, u2, u3⟩ := f2.2.2.2.2.2.2.1 (r z) hrz
        have n51 : ln s1 51 = ln σ 51 := f4.ln 51
        have n57 : ln s1 57 = ln s1 51 := f2.2.2.2.1 57 (by omega) (by omega)
        have hst1 : rn L xs (d + 3) 99 10 [.ref 50, v1, .int (i32 (M : Int)), v3, v4] [] σ = cond (pv_c2 .lt (i32 (G.1 (r z) : Int)) (i32 2)) (rn L xs (d + 3) 99 10 [.ref 50, (dj (dj v1)), .int (i32 (M : Int)), .int (i32 (r z : Int)), (dj (dj v4))] [] s1) (cond (pv_c2 .ne (rd s1 57 (r z)) (i32 (S : Int))) (rn L xs (d + 3) 99 60 [.ref 50, (dj (dj v1)), .int (i32 (M : Int)), .int (i32 (r z : Int)), (dj (dj v4))] [] s1) (rn L xs (d + 3) 99 10 [.ref 50, (dj (dj v1)), .int (i32 (M : Int)), .int (i32 (r z : Int)), (dj (dj v4))] [] s1)) := by
          rw [e99_10 (d + 2), h14, g1, cond_false, t9, c2_gt (by omega) (by omega) (by omega) (by omega), c_f (by omega), bI_ok p1, bI_ok f1, c_in (by omega) (by omega) (by omega), i32_ixn (by omega), u1, show (2 : Int32) = i32 2 from rfl, c_in (by omega) (by omega) (by omega), hC2.2.1.1]
        have skip : (G.1 (r z) < 2 ∨ r z ∈ ML) → ∃ (σ' : tvS) (ML' : List Nat), rn L xs (d + 3) 99 10 [.ref 50, (dj (dj v1)), .int (i32 (M : Int)), .int (i32 (r z : Int)), (dj (dj v4))] [] s1 = some (.inl none, σ') ∧ RCH K1 K2 N G r hl hv H S ML' σ' ∧ (∀ t, t ∈ ML → t ∈ ML') ∧ (∀ t, t ∈ ML' → 2 ≤ G.1 t ∧ RX t) ∧ (ML'.length ≤ M → (∀ t, t ∈ ML' → ∀ z, scs G hl hv t z → G.1 (r z) < 2 ∨ r z ∈ ML') ∧ ∀ x, x ∈ z :: W → G.1 (r x) < 2 ∨ r x ∈ ML') ∧ (ML.length ≤ M + 1 → ML'.length ≤ M + 1) ∧ frT [52, 57, 61] [61] [14, 15] σ σ' := by
          intro hs
          obtain ⟨σ', ML', y1, y2, y3, y4, y5, y6, y7⟩ := ih W ML s1 (dj (dj v1)) (.int (i32 (r z : Int))) (dj (dj v4)) (by omega) hC2 hW2 (fun x hx => hz x (List.mem_cons_of_mem _ hx)) hm (fun h t ht x hx => by
            rcases hc h t ht x hx with k | k | k
            · exact .inl k
            · exact .inr (.inl k)
            · rcases List.mem_cons.mp k with e | e
              · rw [e]; exact hs.elim .inl (fun k => .inr (.inl k))
              · exact .inr (.inr e)) (by omega)
          refine ⟨σ', ML', y1, y2, y3, y4, fun h => ⟨(y5 h).1, fun x hx => ?_⟩, y6, ew.trans y7⟩
          rcases List.mem_cons.mp hx with e | e
          · rw [e]; exact hs.elim .inl (fun k => .inr (y3 _ k))
          · exact (y5 h).2 x e
        rw [hst1, c2_lt (by omega) (by omega) (by omega) (by omega)]
        by_cases hk : G.1 (r z) < 2
        · rw [c_t (by omega)]; exact skip (.inl hk)
        · obtain ⟨s, s1', s2', s3'⟩ := hC2.2.2.1 (r z) hrz
          rw [c_f (by omega), s2', c2_ne (by omega) (by omega) (by omega) (by omega)]
          by_cases hq : s = S
          · rw [c_f (by omega)]; exact skip (.inr (s3'.mp hq))
          · have hnm : r z ∉ ML := fun k => hq (s3'.mpr k)
            rw [c_t (by omega)]
            -- it is marked
            have hrt := hrr z z1
            have hk2 : 2 ≤ G.1 (r z) := by omega
            obtain ⟨sM, esM⟩ : ∃ sM, sM = wr (wr s1 57 (r z) (i32 (S : Int))) 50 15 (i32 ((ML.length + 1 : Nat) : Int)) := ⟨_, rfl⟩
            have wM : frT [57] [] [15] s1 sM := by rw [esM]; exact (frT_wr rfl (by decide)).trans ⟨frG_wr rfl, fun i hi => wr_nei (fun e => by rw [e] at hi; cases hi)⟩
            have hCM : RCH K1 K2 N G r hl hv H S (r z :: ML) sM := by
              obtain ⟨⟨a1, a2, a3⟩, ⟨b1, b2⟩, c, e, g, k⟩ := hC2
              refine ⟨⟨a1.T wM rfl ⟨rfl, rfl, rfl, rfl⟩ (fun _ _ _ => rfl), a2.T wM rfl ⟨rfl, rfl, rfl, rfl⟩ ⟨rfl, rfl⟩, by rw [esM]; exact a3.wr.wr⟩, ⟨(wM.2 12 rfl).trans b1, b2⟩, fun x hx => ?_, List.nodup_cons.mpr ⟨hnm, e⟩, fun x hx => ?_, by rw [esM, wr_self]; rfl⟩
              · rw [esM, wr_nek (by decide)]
                by_cases ex : x = r z
                · rw [ex, wr_self]
                  exact ⟨S, Nat.le_refl _, rfl, fun _ => List.mem_cons_self, fun _ => rfl⟩
                · rw [wr_nei ex]
                  obtain ⟨s', g1, g2, g3⟩ := c x hx
                  refine ⟨s', g1, g2, fun h => List.mem_cons_of_mem _ (g3.mp h), fun h => ?_⟩
                  rcases List.mem_cons.mp h with h | h
                  · exact absurd h ex
                  · exact g3.mpr h
              · rcases List.mem_cons.mp hx with h | h
                · rw [h]; exact ⟨hrz, hrt⟩
                · exact g x h
            have hWM : WK (ints W) sM := by
              refine ⟨?_, ?_, ?_⟩
              · rw [wM.2 14 rfl]; exact hW2.1
              · rw [(wM.1.2.2 61 rfl).1]; exact hW2.2.1
              · exact hW2.2.2.congr (fun i _ => wM.rd (j := 61) rfl i)
            have hwl2 : (ints W).length = W.length := by unfold ints; rw [List.length_map]
            obtain ⟨s4, q1, q2, q3, q4⟩ := parts_c (L := L) (xs := xs) hCM.1.1 hCM.1.2.2 hWM (by rw [hwl2]; omega) hrz hk2 d
            have hC4 := hCM.push q4 q3
            have hW4 : WK (ints (kids G (r z) ++ W)) s4 := by
              have e : ints (kids G (r z) ++ W) = ints (kids G (r z)) ++ ints W := by unfold ints; rw [List.map_append]
              rw [e]; exact q2
            obtain ⟨h1, h2, h3, h4⟩ := hC4.1.2.1.2.2.2.2.1 (r z) hrz hrt
            have hfl2 := (flat_len t2 (r z :: ML) (List.nodup_cons.mpr ⟨hnm, t7⟩) (fun x hx => by
              rcases List.mem_cons.mp hx with h | h
              · rw [h]; exact ⟨hrz, hrt⟩
              · exact t8 x h)).2.2
            rw [List.flatMap_cons, List.length_append] at hfl2
            have hkl := kids_len (G := G) (t := r z)
            have hMLN : ML.length + 1 ≤ N := by
              have := nodup_lt hCM.2.2.2.1 (fun x hx => (hCM.2.2.2.2.1 x hx).1)
              exact this
            obtain ⟨s5, w1, w3, r1, r2, r3, r4⟩ := rch_held (L := L) (xs := xs) (K1 := K1) (K2 := K2) (hv := hv) (d + 1) (i32 (M : Int)) (hl (r z)) (kids G (r z) ++ W) s4 (rd s4 55 (r z)) (dj (dj (dj v1))) (.int (i32 (r z : Int))) q3 hW4 (by rw [List.length_append]; omega) hC4.1.2.1.2.1 hC4.1.2.1.2.2.1 (fun i hi => ⟨h3 i hi, (hC4.1.2.1.2.2.2.1 i (h3 i hi)).1⟩) h1
            have hC5 := hC4.push r4 r3
            obtain ⟨σ', ML', y1, y2, y3, y4, y5, y6, y7⟩ := ih (((hl (r z)).map hv).reverse ++ (kids G (r z) ++ W)) (r z :: ML) s5 w1 w3 (.int (i32 (-1))) (by
                rw [List.length_append, List.length_reverse, List.length_map, List.length_append, List.length_cons]
                exact mu_step hMLN hn (by omega)) hC5 r2 (fun x hx => by
                rcases List.mem_append.mp hx with h | h
                · obtain ⟨i, i1, i2⟩ := List.mem_map.mp (List.mem_reverse.mp h)
                  rw [← i2]
                  exact ⟨(hC4.1.2.1.2.2.2.1 i (h3 i i1)).2, hRX (r z) _ z2 hrz hrt hk2 (.inr ⟨i, i1, rfl⟩)⟩
                · rcases List.mem_append.mp h with h | h
                  · exact ⟨kids_lt t1 hrz hk2 h, hRX (r z) _ z2 hrz hrt hk2 (.inl h)⟩
                  · exact hz x (List.mem_cons_of_mem _ h)) (fun t ht => by
                rcases List.mem_cons.mp ht with h | h
                · rw [h]; exact ⟨hk2, z2⟩
                · exact hm t h) (fun h t ht x hx => by
                have h : ML.length + 1 ≤ M := h
                rcases List.mem_cons.mp ht with e | e
                · rw [e] at hx
                  rcases hx with k | ⟨i, i1, i2⟩
                  · exact .inr (.inr (List.mem_append_right _ (List.mem_append_left _ k)))
                  · exact .inr (.inr (List.mem_append_left _ (List.mem_reverse.mpr (List.mem_map.mpr ⟨i, i1, i2⟩))))
                · rcases hc (by omega) t e x hx with k | k | k
                  · exact .inl k
                  · exact .inr (.inl (List.mem_cons_of_mem _ k))
                  · rcases List.mem_cons.mp k with e | e
                    · rw [e]; exact .inr (.inl List.mem_cons_self)
                    · exact .inr (.inr (List.mem_append_right _ (List.mem_append_right _ e)))) (by
                rw [List.length_append, List.length_reverse, List.length_map, List.length_append, List.length_cons, List.flatMap_cons, List.length_append]
                omega)
            refine ⟨σ', ML', ?_, y2, fun t ht => y3 t (List.mem_cons_of_mem _ ht), y4, fun h => ⟨(y5 h).1, fun x hx => ?_⟩, fun h => y6 (by show ML.length + 1 ≤ M + 1; omega), ew.trans ((wM.sub rfl rfl rfl).trans ((q4.sub rfl rfl rfl).trans ((r4.sub rfl rfl rfl).trans y7)))⟩
            · have n55 : ln s4 55 = ln s4 51 := hC4.1.1.2.2.2.1 55 (by omega) (by omega)
              have n51' := hC4.1.1.2.2.1
              have b51' := hC4.1.2.2.le (k := 51) (M := 122880) (by decide)
              rw [e99_60 (d + 2), c_in (by omega) (by omega) (by omega), i32_ixn (by omega), hC2.2.1.1, hC2.2.2.2.2.2, i32_up, ← esM, bV_ok q1, c_in (by omega) (by omega) (by omega)]
              exact r1.trans y1
            · rcases List.mem_cons.mp hx with e | e
              · rw [e]; exact .inr (y3 _ List.mem_cons_self)
              · exact (y5 h).2 x (List.mem_append_right _ (List.mem_append_right _ e))
end REACHC
