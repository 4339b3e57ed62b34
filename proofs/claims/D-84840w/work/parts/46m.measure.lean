/-! REGIONS, THE COMPONENT: how much a function's types are of -/
section MEASURE
variable {L : Nat} {xs : Nat → Int32} {σ σ' σ0 : tvS} {K1 K2 N H S : Nat} {G : tG} {r : Nat → Nat} {hl : Nat → List Nat} {hv : Nat → Nat}
def unk (G : tG) (ML : List Nat) : Nat := (ML.filter (fun t => decide (G.1 t = 0))).length
def hpr (G : tG) (r hv : Nat → Nat) (hl : Nat → List Nat) (ML : List Nat) : List (Nat × Nat) := ML.flatMap (fun t => (hbx G r hv [] (hl t)).map (fun y => (t, y)))
/-- in the midst of measuring -/
def RCN (K1 K2 N : Nat) (G : tG) (r : Nat → Nat) (hl : Nat → List Nat) (hv : Nat → Nat) (H S : Nat) (ML : List Nat) (σ : tvS) : Prop := RCH K1 K2 N G r hl hv H S ML σ ∧ rd σ 50 16 = i32 (unk G ML : Int) ∧ rd σ 50 17 = i32 ((hpr G r hv hl ML).length : Int)
theorem mch_held {hv : Nat → Nat} (d : Nat) (x2 : Int32) : ∀ (l W : List Nat) (σ : tvS) (x3 : Int32) (v1 : Value), ROOM K1 K2 σ → WK (ints W) σ → W.length + l.length < 524288 → H ≤ ln σ 59 → ln σ 60 = ln σ 59 → (∀ i, i ∈ l → i < H ∧ rd σ 59 i = i32 (hv i : Int)) → chL σ l x3 →
    ∃ σ' w1, rn L xs (d + 2) 102 124 [.ref 50, v1, .int x2, .int x3] [] σ = rn L xs (d + 2) 102 149 [.ref 50, w1, .int x2, .int (i32 (-1))] [] σ' ∧ WK (ints ((l.map hv).reverse ++ W)) σ' ∧ ROOM K1 K2 σ' ∧ frT [61] [61] [14] σ σ' := by
  intro l
  induction l with
  | nil =>
    intro W σ x3 v1 hR hW _ _ _ _ hc
    refine ⟨σ, v1, ?_, hW, hR, frT.refl⟩
    rw [e102_124, show x3 = i32 (-1) from hc, i32_raw, c2_refl]
  | cons i l ih =>
    intro W σ x3 v1 hR hW hn h59 h60 hl hc
    obtain ⟨h1, h2⟩ := hl i List.mem_cons_self
    have b59 := hR.le (k := 59) (M := 212992) (by decide)
    obtain ⟨c1, c2⟩ := hc
    have hn : W.length + (l.length + 1) < 524288 := hn
    obtain ⟨s1, p1, q1, R1, w1⟩ := push_T (L := L) (xs := xs) hR hW (by show (ints W).length < _; unfold ints; rw [List.length_map]; omega) (hv i : Int) d
    have n60 := (w1.1.2.2 60 rfl).1
    have n59 := (w1.1.2.2 59 rfl).1
    obtain ⟨σ', u1, z1, z2, z3, z4⟩ := ih (hv i :: W) s1 (rd s1 60 i) (dj v1) R1 q1 (by show W.length + 1 + l.length < _; omega) (by rw [n59]; exact h59) (by rw [n59, n60]; exact h60) (fun j hj => by rw [w1.rd (j := 59) rfl]; exact hl j (List.mem_cons_of_mem _ hj)) (by rw [w1.rd (j := 60) rfl]; exact c2.congr (fun j _ => w1.rd (j := 60) rfl j))
    refine ⟨σ', u1, ?_, ?_, z3, w1.trans z4⟩
    · rw [e102_124 (d + 1), c1, i32_raw, c2_eq (by omega) (by omega) (by omega) (by omega), c_f (by omega), c_in (by omega) (by omega) (by omega), i32_ixn (by omega), h2, bV_ok p1, c_in (by omega) (by omega) (by omega)]
      exact z1
    · rw [List.map_cons, List.reverse_cons, List.append_assoc]; exact z2
theorem RCN.push {ML : List Nat} (h : RCN K1 K2 N G r hl hv H S ML σ) (w : frT [61] [61] [14] σ σ') (hR : ROOM K1 K2 σ') : RCN K1 K2 N G r hl hv H S ML σ' := ⟨h.1.push w hR, (w.2 16 rfl).trans h.2.1, (w.2 17 rfl).trans h.2.2⟩
theorem RCN.pop {ML : List Nat} {x : Int32} (h : RCN K1 K2 N G r hl hv H S ML σ) : RCN K1 K2 N G r hl hv H S ML (wr σ 50 14 x) := ⟨h.1.pop, by rw [wr_nei (by decide)]; exact h.2.1, by rw [wr_nei (by decide)]; exact h.2.2⟩
theorem RCN.find {ML : List Nat} (h : RCN K1 K2 N G r hl hv H S ML σ) (hT : TC N G r σ') (hR : ROOM K1 K2 σ') (w : frW [52] σ σ') : RCN K1 K2 N G r hl hv H S ML σ' := ⟨h.1.find hT hR w, (w.1 50 rfl 16).trans h.2.1, (w.1 50 rfl 17).trans h.2.2⟩
/-- an unknown has no parts -/
theorem parts_0 {t : Nat} (hT : TC N G r σ) (hR : ROOM K1 K2 σ) (ht : t < N) (hk : G.1 t = 0) (d : Nat) : rn L xs (d + 2) 97 0 [.ref 50, .int (i32 (t : Int))] [] σ = some (.inl none, σ) := by
  have b51 := hR.le (k := 51) (M := 122880) (by decide)
  have l51 := hT.2.2.1
  have u1 := (hT.2.2.2.2.2.2.1 t ht).1
  rw [e97_0, c_in (by omega) (by omega) (by omega), i32_ixn (by omega), u1, hk, show (2 : Int32) = i32 ((2 : Nat) : Int) from rfl, c2_lt (by omega) (by omega) (by omega) (by omega), c_t (by omega), e97_20, c_in (by omega) (by omega) (by omega), i32_ixn (by omega), u1, hk, show (2 : Int32) = i32 ((2 : Nat) : Int) from rfl, c2_eq (by omega) (by omega) (by omega) (by omega), c_f (by omega), c_in (by omega) (by omega) (by omega), show (4 : Int32) = i32 ((4 : Nat) : Int) from rfl, c2_ne (by omega) (by omega) (by omega) (by omega), c_t (by omega), e97_50]
theorem measure_loop (hrr : ∀ x, x < N → r (r x) = r x) (hHK : HK N G r hl) (RX : Nat → Prop) (hRX : ∀ t z, RX t → t < N → r t = t → 2 ≤ G.1 t → scs G hl hv t z → RX (r z)) (d : Nat) : ∀ (n : Nat) (W ML : List Nat) (σ : tvS) (v1 v2 v3 : Value), (N - ML.length) * 600000 + W.length ≤ n → RCN K1 K2 N G r hl hv H S ML σ → WK (ints W) σ → (∀ z, z ∈ W → z < N ∧ RX (r z)) → (∀ t, t ∈ ML → G.1 t ≠ 1 ∧ RX t) → (∀ t, t ∈ ML → 2 ≤ G.1 t → ∀ z, scs G hl hv t z → G.1 (r z) = 1 ∨ r z ∈ ML ∨ z ∈ W) → W.length ≤ 1 + 2 * ML.length + (ML.flatMap hl).length →
    ∃ (σ' : tvS) (ML' : List Nat), rn L xs (d + 4) 102 27 [.ref 50, v1, v2, v3] [] σ = some (.inl none, σ') ∧ RCN K1 K2 N G r hl hv H S ML' σ' ∧ (∀ t, t ∈ ML → t ∈ ML') ∧ (∀ t, t ∈ ML' → G.1 t ≠ 1 ∧ RX t) ∧ ((∀ t, t ∈ ML' → 2 ≤ G.1 t → ∀ z, scs G hl hv t z → G.1 (r z) = 1 ∨ r z ∈ ML') ∧ ∀ z, z ∈ W → G.1 (r z) = 1 ∨ r z ∈ ML') ∧ frT [52, 57, 61] [61] [14, 15, 16, 17] σ σ' := by
  intro n
  induction n with
  | zero =>
    intro W ML σ v1 v2 v3 hn hC hW hz hm hc hb
    have e : W = [] := List.eq_nil_of_length_eq_zero (by omega)
    subst e
    refine ⟨σ, ML, ?_, hC, fun _ h => h, hm, ⟨fun t ht hk z hs => (hc t ht hk z hs).elim .inl (fun k => k.elim .inr (fun k => by cases k)), fun z hz => by cases hz⟩, frT.refl⟩
    have h14 : rd σ 50 14 = i32 0 := hW.1
    rw [e102_27, h14, show pv_c1 .le (i32 0) = true from rfl, cond_true, e102_166]
  | succ n ih =>
    intro W ML σ v1 v2 v3 hn hC hW hz hm hc hb
    cases W with
    | nil =>
      refine ⟨σ, ML, ?_, hC, fun _ h => h, hm, ⟨fun t ht hk z hs => (hc t ht hk z hs).elim .inl (fun k => k.elim .inr (fun k => by cases k)), fun z hz => by cases hz⟩, frT.refl⟩
      have h14 : rd σ 50 14 = i32 0 := hW.1
      rw [e102_27, h14, show pv_c1 .le (i32 0) = true from rfl, cond_true, e102_166]
    | cons z W =>
      obtain ⟨⟨t1, t2, t3⟩, ⟨t4, t5⟩, t6, t7, t8, t9⟩ := id hC.1
      have hN := t1.lt t3
      have hML := nodup_lt t7 (fun x hx => (t8 x hx).1)
      have hfl := (flat_len t2 ML t7 t8).2.2
      have b59 := t3.le (k := 59) (M := 212992) (by decide)
      have b51 := t3.le (k := 51) (M := 122880) (by decide)
      have b61 := t3.le (k := 61) (M := 524288) (by decide)
      have l51 := t1.2.2.1
      have hH59 := t2.2.1
      have hwl : (ints (z :: W)).length = W.length + 1 := by unfold ints; rw [List.length_map]; rfl
      have hb : W.length + 1 ≤ 1 + 2 * ML.length + (ML.flatMap hl).length := hb
      have hn : (N - ML.length) * 600000 + (W.length + 1) ≤ n + 1 := hn
      have h14 : rd σ 50 14 = i32 ((W.length + 1 : Nat) : Int) := by rw [hW.1, hwl]
      have g1 : pv_c1 .le (i32 ((W.length + 1 : Nat) : Int)) = false := by
        rw [c1_le (by omega) (by omega)]
        exact decide_eq_false (by omega)
      obtain ⟨p1, p2⟩ := pop_c (L := L) (xs := xs) hW (by omega) (d + 2)
      have p1 : rn L xs (d + 3) 87 0 [.ref 50] [] σ = some (.inl (some (.int (i32 (z : Int)))), wr σ 50 14 (i32 ((ints W).length : Int))) := p1
      have p2 : WK (ints W) (wr σ 50 14 (i32 ((ints W).length : Int))) := p2
      have hC1 := hC.pop (x := i32 ((ints W).length : Int))
      obtain ⟨z1, z2⟩ := hz z List.mem_cons_self
      obtain ⟨s1, f1, f2, f3, f4⟩ := find_C (L := L) (xs := xs) hC1.1.1.1 hC1.1.1.2.2 z1 (d + 2) jv jv jv
      have hC2 := hC1.find f2 f3 f4
      have hW2 : WK (ints W) s1 := p2.fr f4 rfl rfl
      have hrz := t1.rlt z1
      have ew : frT [52, 57, 61] [61] [14, 15, 16, 17] σ s1 := (show frT [52, 57, 61] [61] [14, 15, 16, 17] σ (wr σ 50 14 (i32 ((ints W).length : Int))) from ⟨frG_wr rfl, fun i hi => wr_nei (fun e => by rw [e] at hi; cases hi)⟩).trans ((f4.T [61] [14, 15, 16, 17] rfl).sub rfl rfl rfl)
      obtain ⟨u1, u2, u3⟩ := f2.2.2.2.2.2.2.1 (r z) hrz
      have n51 : ln s1 51 = ln σ 51 := f4.ln 51
      have n57 : ln s1 57 = ln s1 51 := f2.2.2.2.1 57 (by omega) (by omega)
      have hst1 : rn L xs (d + 4) 102 27 [.ref 50, v1, v2, v3] [] σ = cond (pv_c2 .eq (i32 (G.1 (r z) : Int)) (i32 1)) (rn L xs (d + 4) 102 27 [.ref 50, (jk (dj (dj v1))), .int (i32 (r z : Int)), (dj (dj v3))] [] s1) (cond (pv_c2 .ne (rd s1 57 (r z)) (i32 (S : Int))) (rn L xs (d + 4) 102 69 [.ref 50, (jk (dj (dj v1))), .int (i32 (r z : Int)), (dj (dj v3))] [] s1) (rn L xs (d + 4) 102 27 [.ref 50, (jk (dj (dj v1))), .int (i32 (r z : Int)), (dj (dj v3))] [] s1)) := by
        rw [e102_27 (d + 3), h14, g1, cond_false, bI_ok p1, bI_ok f1, c_in (by omega) (by omega) (by omega), i32_ixn (by omega), u1, show (1 : Int32) = i32 1 from rfl, c_in (by omega) (by omega) (by omega), hC2.1.2.1.1]
      have skip : (G.1 (r z) = 1 ∨ r z ∈ ML) → ∃ (σ' : tvS) (ML' : List Nat), rn L xs (d + 4) 102 27 [.ref 50, (jk (dj (dj v1))), .int (i32 (r z : Int)), (dj (dj v3))] [] s1 = some (.inl none, σ') ∧ RCN K1 K2 N G r hl hv H S ML' σ' ∧ (∀ t, t ∈ ML → t ∈ ML') ∧ (∀ t, t ∈ ML' → G.1 t ≠ 1 ∧ RX t) ∧ ((∀ t, t ∈ ML' → 2 ≤ G.1 t → ∀ z, scs G hl hv t z → G.1 (r z) = 1 ∨ r z ∈ ML') ∧ ∀ x, x ∈ z :: W → G.1 (r x) = 1 ∨ r x ∈ ML') ∧ frT [52, 57, 61] [61] [14, 15, 16, 17] σ σ' := by
        intro hs
        obtain ⟨σ', ML', y1, y2, y3, y4, y5, y7⟩ := ih W ML s1 (jk (dj (dj v1))) (.int (i32 (r z : Int))) (dj (dj v3)) (by omega) hC2 hW2 (fun x hx => hz x (List.mem_cons_of_mem _ hx)) hm (fun t ht hk x hx => by
          rcases hc t ht hk x hx with k | k | k
          · exact .inl k
          · exact .inr (.inl k)
          · rcases List.mem_cons.mp k with e | e
            · rw [e]; exact hs.elim .inl (fun k => .inr (.inl k))
            · exact .inr (.inr e)) (by omega)
        refine ⟨σ', ML', y1, y2, y3, y4, ⟨y5.1, fun x hx => ?_⟩, ew.trans y7⟩
        rcases List.mem_cons.mp hx with e | e
        · rw [e]; exact hs.elim .inl (fun k => .inr (y3 _ k))
        · exact y5.2 x e
      rw [hst1, c2_eq (by omega) (by omega) (by omega) (by omega)]
      by_cases hk : G.1 (r z) = 1
      · rw [c_t (by omega)]; exact skip (.inl hk)
      · obtain ⟨s, s1', s2', s3'⟩ := hC2.1.2.2.1 (r z) hrz
        rw [c_f (by omega), s2', c2_ne (by omega) (by omega) (by omega) (by omega)]
        by_cases hq : s = S
        · rw [c_f (by omega)]; exact skip (.inr (s3'.mp hq))
        · have hnm : r z ∉ ML := fun k => hq (s3'.mpr k)
          rw [c_t (by omega)]
          have hrt := hrr z z1
          -- it is marked, and counted if it is an unknown
          obtain ⟨dl, hdl⟩ : ∃ dl : Nat, (dl = 1 ∧ G.1 (r z) = 0) ∨ (dl = 0 ∧ G.1 (r z) ≠ 0) := by
            by_cases q : G.1 (r z) = 0
            · exact ⟨1, .inl ⟨rfl, q⟩⟩
            · exact ⟨0, .inr ⟨rfl, q⟩⟩
          have eun : unk G (r z :: ML) = unk G ML + dl := by
            unfold unk
            rcases hdl with ⟨q1, q2⟩ | ⟨q1, q2⟩
            · rw [List.filter_cons_of_pos (by rw [decide_eq_true_eq]; exact q2), q1]; rfl
            · rw [List.filter_cons_of_neg (by rw [decide_eq_true_eq]; exact q2), q1]; rfl
          have hunl : unk G ML ≤ ML.length := List.length_filter_le _ _
          obtain ⟨sM, esM⟩ : ∃ sM, sM = wr (wr s1 57 (r z) (i32 (S : Int))) 50 15 (i32 ((ML.length + 1 : Nat) : Int)) := ⟨_, rfl⟩
          obtain ⟨sN, esN⟩ : ∃ sN, sN = wr sM 50 16 (i32 ((unk G ML + dl : Nat) : Int)) := ⟨_, rfl⟩
          have wM : frT [57] [] [15] s1 sM := by rw [esM]; exact (frT_wr rfl (by decide)).trans ⟨frG_wr rfl, fun i hi => wr_nei (fun e => by rw [e] at hi; cases hi)⟩
          have wN : frT [57] [] [15, 16] s1 sN := (wM.sub rfl rfl rfl).trans (by rw [esN]; exact ⟨frG_wr rfl, fun i hi => wr_nei (fun e => by rw [e] at hi; cases hi)⟩)
          have hCM : RCH K1 K2 N G r hl hv H S (r z :: ML) sN := by
            obtain ⟨⟨a1, a2, a3⟩, ⟨b1, b2⟩, c, e, g, k⟩ := hC2.1
            refine ⟨⟨a1.T wN rfl ⟨rfl, rfl, rfl, rfl⟩ (fun _ _ _ => rfl), a2.T wN rfl ⟨rfl, rfl, rfl, rfl⟩ ⟨rfl, rfl⟩, by rw [esN, esM]; exact a3.wr.wr.wr⟩, ⟨(wN.2 12 rfl).trans b1, b2⟩, fun x hx => ?_, List.nodup_cons.mpr ⟨hnm, e⟩, fun x hx => ?_, by rw [esN, wr_nei (by decide), esM, wr_self]; rfl⟩
            · rw [esN, wr_nek (by decide), esM, wr_nek (by decide)]
              by_cases ex : x = r z
              · rw [ex, wr_self]
                exact ⟨S, Nat.le_refl _, rfl, fun _ => List.mem_cons_self, fun _ => rfl⟩
              · rw [wr_nei ex]
                obtain ⟨s', g1, g2, g3⟩ := c x hx
                refine ⟨s', g1, g2, fun h => List.mem_cons_of_mem _ (g3.mp h), fun h => ?_⟩
                rcases List.mem_cons.mp h with h | h
                · exact absurd h ex
                · exact g3.mpr h
            · rcases List.mem_cons.mp hx with h | h
              · rw [h]; exact ⟨hrz, hrt⟩
              · exact g x h
          have hWM : WK (ints W) sN := by
            refine ⟨?_, ?_, ?_⟩
            · rw [wN.2 14 rfl]; exact hW2.1
            · rw [(wN.1.2.2 61 rfl).1]; exact hW2.2.1
            · exact hW2.2.2.congr (fun i _ => wN.rd (j := 61) rfl i)
          have hwl2 : (ints W).length = W.length := by unfold ints; rw [List.length_map]
          have hkl := kids_len (G := G) (t := r z)
          obtain ⟨s4, KD, q1, q2, q3, q4, q5⟩ : ∃ (s4 : tvS) (KD : List Nat), rn L xs (d + 3) 97 0 [.ref 50, .int (i32 (r z : Int))] [] sN = some (.inl none, s4) ∧ WK (ints (KD ++ W)) s4 ∧ ROOM K1 K2 s4 ∧ frT [61] [61] [14] sN s4 ∧ ((2 ≤ G.1 (r z) ∧ KD = kids G (r z)) ∨ (G.1 (r z) = 0 ∧ KD = [])) := by
            by_cases q : 2 ≤ G.1 (r z)
            · obtain ⟨s4, q1, q2, q3, q4⟩ := parts_c (L := L) (xs := xs) hCM.1.1 hCM.1.2.2 hWM (by rw [hwl2]; omega) hrz q (d + 1)
              refine ⟨s4, kids G (r z), q1, ?_, q3, q4, .inl ⟨q, rfl⟩⟩
              have e : ints (kids G (r z) ++ W) = ints (kids G (r z)) ++ ints W := by unfold ints; rw [List.map_append]
              rw [e]; exact q2
            · have k0 : G.1 (r z) = 0 := by omega
              exact ⟨sN, [], parts_0 hCM.1.1 hCM.1.2.2 hrz k0 (d + 1), hWM, hCM.1.2.2, frT.refl, .inr ⟨k0, rfl⟩⟩
          have hKD : KD.length ≤ 2 := by rcases q5 with ⟨_, e⟩ | ⟨_, e⟩ <;> rw [e]; · exact hkl
                                         · exact Nat.zero_le _
          have hC4 := hCM.push q4 q3
          obtain ⟨h1, h2, h3, h4⟩ := hC4.1.2.1.2.2.2.2.1 (r z) hrz hrt
          have hfl2 := (flat_len t2 (r z :: ML) (List.nodup_cons.mpr ⟨hnm, t7⟩) (fun x hx => by
            rcases List.mem_cons.mp hx with h | h
            · rw [h]; exact ⟨hrz, hrt⟩
            · exact t8 x h)).2.2
          rw [List.flatMap_cons, List.length_append] at hfl2
          have hMLN : ML.length + 1 ≤ N := by
            have := nodup_lt hCM.2.2.2.1 (fun x hx => (hCM.2.2.2.2.1 x hx).1)
            exact this
          obtain ⟨s5, w1, r1, r2, r3, r4⟩ := mch_held (L := L) (xs := xs) (K1 := K1) (K2 := K2) (hv := hv) (d + 2) (i32 (r z : Int)) (hl (r z)) (KD ++ W) s4 (rd s4 55 (r z)) (dj (jk (dj (dj v1)))) q3 q2 (by rw [List.length_append]; omega) hC4.1.2.1.2.1 hC4.1.2.1.2.2.1 (fun i hi => ⟨h3 i hi, (hC4.1.2.1.2.2.2.1 i (h3 i hi)).1⟩) h1
          have hC5 := hC4.push r4 r3
          obtain ⟨s6, o1, o2, o3, o4⟩ := heldBy_c (L := L) (xs := xs) hC5.1.1 hC5.1.2.1 r3 hrz hrt d jv jv jv jv
          have hC6 := hC5.find o2 o3 o4
          have ehp : (hpr G r hv hl (r z :: ML)).length = (hpr G r hv hl ML).length + (hbx G r hv [] (hl (r z))).length := by
            unfold hpr
            rw [List.flatMap_cons, List.length_append, List.length_map]; omega
          have e17 : rd s5 50 17 = i32 ((hpr G r hv hl ML).length : Int) := by rw [r4.2 17 rfl, q4.2 17 rfl, wN.2 17 rfl]; exact hC2.2.2
          obtain ⟨s7, es7⟩ : ∃ s7, s7 = wr s6 50 17 (i32 ((hpr G r hv hl (r z :: ML)).length : Int)) := ⟨_, rfl⟩
          have w7 : frT [] [] [17] s6 s7 := by rw [es7]; exact ⟨frG_wr rfl, fun i hi => wr_nei (fun e => by rw [e] at hi; cases hi)⟩
          have hC7 : RCN K1 K2 N G r hl hv H S (r z :: ML) s7 := by
            obtain ⟨⟨a1, a2, a3⟩, ⟨b1, b2⟩, c, e, g, k⟩ := hC6
            refine ⟨⟨⟨a1.T w7 rfl ⟨rfl, rfl, rfl, rfl⟩ (fun _ _ _ => rfl), a2.T w7 rfl ⟨rfl, rfl, rfl, rfl⟩ ⟨rfl, rfl⟩, by rw [es7]; exact a3.wr⟩, ⟨(w7.2 12 rfl).trans b1, b2⟩, fun x hx => by rw [w7.rd (j := 57) rfl]; exact c x hx, e, g, (w7.2 15 rfl).trans k⟩, ?_, by rw [es7, wr_self]⟩
            rw [w7.2 16 rfl, o4.1 50 rfl, r4.2 16 rfl, q4.2 16 rfl, esN, wr_self, eun]
          have hW7 : WK (ints (((hl (r z)).map hv).reverse ++ (KD ++ W))) s7 := by
            have w67 : frW [52] s5 s6 := o4
            refine ⟨?_, ?_, ?_⟩
            · rw [w7.2 14 rfl, o4.1 50 rfl]; exact r2.1
            · rw [(w7.1.2.2 61 rfl).1, o4.ln]; exact r2.2.1
            · exact r2.2.2.congr (fun i _ => (w7.rd (j := 61) rfl i).trans (o4.1 61 rfl i))
          have hkz : ∀ x, x ∈ KD → x < N ∧ RX (r x) := fun x hx => by
            rcases q5 with ⟨k2, e⟩ | ⟨_, e⟩
            · rw [e] at hx
              exact ⟨kids_lt t1 hrz k2 hx, hRX (r z) _ z2 hrz hrt k2 (.inl hx)⟩
            · rw [e] at hx; cases hx
          have hk4 : hl (r z) ≠ [] → G.1 (r z) = 4 := fun h => hHK (r z) hrz hrt h
          obtain ⟨σ', ML', y1, y2, y3, y4, y5, y7⟩ := ih (((hl (r z)).map hv).reverse ++ (KD ++ W)) (r z :: ML) s7 (dj w1) (.int (i32 (r z : Int))) (dj (.int (i32 (-1)))) (by
              rw [List.length_append, List.length_reverse, List.length_map, List.length_append, List.length_cons]
              exact mu_step hMLN hn (by omega)) hC7 hW7 (fun x hx => by
              rcases List.mem_append.mp hx with h | h
              · obtain ⟨i, i1, i2⟩ := List.mem_map.mp (List.mem_reverse.mp h)
                rw [← i2]
                exact ⟨(hC4.1.2.1.2.2.2.1 i (h3 i i1)).2, hRX (r z) _ z2 hrz hrt (by rw [hk4 (fun e => by rw [e] at i1; cases i1)]; decide) (.inr ⟨i, i1, rfl⟩)⟩
              · rcases List.mem_append.mp h with h | h
                · exact hkz x h
                · exact hz x (List.mem_cons_of_mem _ h)) (fun t ht => by
              rcases List.mem_cons.mp ht with h | h
              · rw [h]; exact ⟨hk, z2⟩
              · exact hm t h) (fun t ht hk2 x hx => by
              rcases List.mem_cons.mp ht with e | e
              · rw [e] at hx hk2
                rcases hx with k | ⟨i, i1, i2⟩
                · rcases q5 with ⟨_, e⟩ | ⟨e, _⟩
                  · exact .inr (.inr (List.mem_append_right _ (List.mem_append_left _ (by rw [e]; exact k))))
                  · omega
                · exact .inr (.inr (List.mem_append_left _ (List.mem_reverse.mpr (List.mem_map.mpr ⟨i, i1, i2⟩))))
              · rcases hc t e hk2 x hx with k | k | k
                · exact .inl k
                · exact .inr (.inl (List.mem_cons_of_mem _ k))
                · rcases List.mem_cons.mp k with e | e
                  · rw [e]; exact .inr (.inl List.mem_cons_self)
                  · exact .inr (.inr (List.mem_append_right _ (List.mem_append_right _ e)))) (by
              rw [List.length_append, List.length_reverse, List.length_map, List.length_append, List.length_cons, List.flatMap_cons, List.length_append]
              omega)
          refine ⟨σ', ML', ?_, y2, fun t ht => y3 t (List.mem_cons_of_mem _ ht), y4, ⟨y5.1, fun x hx => ?_⟩, ew.trans ((wN.sub rfl rfl rfl).trans ((q4.sub rfl rfl rfl).trans ((r4.sub rfl rfl rfl).trans (((o4.T [] [] rfl).sub rfl rfl rfl).trans ((w7.sub rfl rfl rfl).trans y7)))))⟩
          · have n55 : ln s4 55 = ln s4 51 := hC4.1.1.2.2.2.1 55 (by omega) (by omega)
            have n51' := hC4.1.1.2.2.1
            have b51' := hC4.1.2.2.le (k := 51) (M := 122880) (by decide)
            have r108 : rn L xs (d + 4) 102 69 [.ref 50, (jk (dj (dj v1))), .int (i32 (r z : Int)), (dj (dj v3))] [] s1 = rn L xs (d + 4) 102 108 [.ref 50, (jk (dj (dj v1))), .int (i32 (r z : Int)), (dj (dj v3))] [.int (i32 (dl : Int)), .int (i32 (unk G ML : Int)), .ref 50] sM := by
              have e16 : rd s1 50 16 = i32 (unk G ML : Int) := hC2.2.1
              rw [e102_69 (d + 3), c_in (by omega) (by omega) (by omega), c_in (by omega) (by omega) (by omega), i32_ixn (by omega), u1, hC2.1.2.1.1, hC2.1.2.2.2.2.2, i32_up, e16, ← esM]
              rcases hdl with ⟨q1, q2⟩ | ⟨q1, q2⟩
              · rw [q2, show pv_c1 .ne (i32 ((0 : Nat) : Int)) = false from rfl, cond_false, q1]; rfl
              · have : pv_c1 .ne (i32 (G.1 (r z) : Int)) = true := by
                  refine decide_eq_true (fun k => ?_)
                  have := (i32_inj (by omega) (by omega) (by omega) (by omega)).mp (show i32 (G.1 (r z) : Int) = i32 ((0 : Nat) : Int) from k)
                  omega
                rw [this, cond_true, e102_107, q1]; rfl
            have eadd : i32 (unk G ML : Int) + i32 (dl : Int) = i32 ((unk G ML + dl : Nat) : Int) := by rw [i32_add]; congr 1
            have eadd2 : i32 ((hpr G r hv hl ML).length : Int) + i32 ((hbx G r hv [] (hl (r z))).length : Int) = i32 ((hpr G r hv hl (r z :: ML)).length : Int) := by rw [i32_add, ehp]; congr 1
            rw [r108, e102_108 (d + 3), eadd, ← esN, bV_ok q1, c_in (by omega) (by omega) (by omega), i32_ixn (by omega), r1, e102_149 (d + 3), bI_ok o1, e17, eadd2, ← es7]
            exact y1
          · rcases List.mem_cons.mp hx with e | e
            · rw [e]; exact .inr (y3 _ List.mem_cons_self)
            · exact y5.2 x (List.mem_append_right _ (List.mem_append_right _ e))
end MEASURE
