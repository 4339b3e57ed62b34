/-! TYPES OF THE MODEL: the search for a ring, as a whole -/
section RGM3
variable {L : Nat} {xs : Nat → Int32} {σ σ' : tvS}
theorem rng_loop {N : Nat} {G : tG} {r : Nat → Nat} {S x B : Nat} (hr2 : ∀ x, r (r x) = r x) (hB : 2 * B + 3 ≤ 100000) (hS : S < 2147483648) (d : Nat) : ∀ (n : Nat) (W : List (Nat × Bool)) (σ : tvS) (dp : Nat → Nat) (c : Nat) (v3 v4 v5 v6 : Value),
    TM N G r σ → qI N G r S x dp c W σ → W.length + 2 * ub N G S σ ≤ 2 * B + 1 → W.length + 3 * ub N G S σ ≤ n →
    (∃ σ', (∀ v1, rn L xs (d + 2) 346 26 [.ref 123, v1, .int (i32 W.length), v3, v4, v5, v6] [] σ = some (.inl (some (.int 1)), σ')) ∧ ¬ gAc G (gRt r) ∧ frM [169, 171, 172, 176] [] σ σ') ∨
    (∃ σ' Q' dp' c', (∀ v1, rn L xs (d + 2) 346 26 [.ref 123, v1, .int (i32 W.length), v3, v4, v5, v6] [] σ = some (.inl (some (.int 0)), σ')) ∧ TM N G r σ' ∧ MT N S σ' ∧ rC N G r Q' dp' c' ∧ (G.1 (r x) < 2 ∨ Q' (r x)) ∧ frM [169, 171, 172, 176] [] σ σ') := by
  intro n
  have base : ∀ (σ : tvS) (dp : Nat → Nat) (c : Nat) (v3 v4 v5 v6 : Value), TM N G r σ → qI N G r S x dp c [] σ →
      (∃ σ' Q' dp' c', (∀ v1, rn L xs (d + 2) 346 26 [.ref 123, v1, .int (i32 (([] : List (Nat × Bool)).length : Nat)), v3, v4, v5, v6] [] σ = some (.inl (some (.int 0)), σ')) ∧ TM N G r σ' ∧ MT N S σ' ∧ rC N G r Q' dp' c' ∧ (G.1 (r x) < 2 ∨ Q' (r x)) ∧ frM [169, 171, 172, 176] [] σ σ') := by
    intro σ dp c v3 v4 v5 v6 hT hI
    obtain ⟨a1, a2, a3, a4, a4', a5, a6, a7, a8, a9⟩ := hI
    refine ⟨σ, _, dp, c, fun v1 => ?_, hT, a1, a8, ?_, frM.refl⟩
    · rw [e346_26, c1_le (by show -2147483648 ≤ ((0 : Nat) : Int); omega) (by show ((0 : Nat) : Int) < _; omega), c_t (by show ((0 : Nat) : Int) ≤ 0; omega), e346_222]
    · rcases a9 with a | a | ⟨u, a, _⟩
      · exact .inl a
      · exact .inr a
      · cases a
  induction n with
  | zero =>
    intro W σ dp c v3 v4 v5 v6 hT hI hm hn
    have : W = [] := List.eq_nil_of_length_eq_zero (by omega)
    subst this
    exact .inr (base σ dp c v3 v4 v5 v6 hT hI)
  | succ n ih =>
    intro W σ dp c v3 v4 v5 v6 hT hI hm hn
    cases W with
    | nil => exact .inr (base σ dp c v3 v4 v5 v6 hT hI)
    | cons e W =>
      obtain ⟨t, o⟩ := e
      obtain ⟨a1, a2, a3, a4, a4', a5, a6, a7, a8, a9⟩ := id hI
      have hN := hT.2.2.1
      have hm' : W.length + 1 + 2 * ub N G S σ ≤ 2 * B + 1 := hm
      have hn' : W.length + 1 + 3 * ub N G S σ ≤ n + 1 := hn
      obtain ⟨ht, hrt, hop⟩ := a3 (t, o) List.mem_cons_self
      have ht : t < N := ht
      have hrt : r t = t := hrt
      have top : rd σ 176 W.length = i32 (t : Int) := by have := a2.1; rw [List.length_map] at this; exact this
      obtain ⟨k1, k2, k3⟩ := hT.2.2.2.2.2.1 t ht
      have e1 : i32 (((t, o) :: W).length : Int) - 1 = i32 (W.length : Int) := by
        rw [show (1 : Int32) = i32 1 from rfl, i32_sub]; congr 1; show ((W.length + 1 : Nat) : Int) - 1 = _; omega
      have e2 : i32 (((t, o) :: W).length : Int) + Int32.ofInt (-1) = i32 (W.length : Int) := by
        rw [i32_raw, i32_add]; congr 1; show ((W.length + 1 : Nat) : Int) + -1 = _; omega
      have start : ∀ v1, rn L xs (d + 2) 346 26 [.ref 123, v1, .int (i32 ((t, o) :: W).length), v3, v4, v5, v6] [] σ = cond (pv_c2 .eq (rd σ 171 t) (i32 (S : Int))) (rn L xs (d + 2) 346 62 [.ref 123, v1, .int (i32 ((t, o) :: W).length), .int (i32 t), v4, v5, v6] [] σ)
          (cond (decide ((2 : Int) ≤ (G.1 t : Int))) (rn L xs (d + 2) 346 78 [.ref 123, v1, .int (i32 ((t, o) :: W).length), .int (i32 t), v4, v5, v6] [] σ) (rn L xs (d + 2) 346 62 [.ref 123, v1, .int (i32 ((t, o) :: W).length), .int (i32 t), v4, v5, v6] [] σ)) := by
        intro v1
        rw [e346_26 (d + 1), c1_le (by omega) (by show ((W.length + 1 : Nat) : Int) < _; omega), c_f (by show ¬ ((W.length + 1 : Nat) : Int) ≤ 0; omega), e1, c_in (by omega) (by omega) (by omega), i32_ixn (by omega), top, c_in (by omega) (by omega) (by omega), i32_ixn (by omega), a1.1, c_in (by omega) (by omega) (by omega), k1, show (2 : Int32) = i32 2 from rfl, c2_ge (by omega) (by omega) (by omega) (by omega)]
      have p62 : ∀ v1, rn L xs (d + 2) 346 62 [.ref 123, v1, .int (i32 ((t, o) :: W).length), .int (i32 t), v4, v5, v6] [] σ = rn L xs (d + 2) 346 26 [.ref 123, jk v1, .int (i32 W.length), .int (i32 t), v4, v5, v6] [] (wr σ 172 t (i32 (S : Int))) := by
        intro v1
        rw [e346_62 (d + 1), c_in (by omega) (by omega) (by omega), i32_ixn (by omega), a1.1, e2]
      have w1 : frM [172] [] σ (wr σ 172 t (i32 (S : Int))) := frM_wr rfl (by decide)
      have T1 := hT.fr w1 rfl ⟨rfl, rfl, rfl, rfl⟩
      have r172 : ∀ y, dnd S (wr σ 172 t (i32 (S : Int))) y ↔ dnd S σ y ∨ y = t := fun y => by
        unfold dnd
        rw [rd_wr]
        by_cases q : y = t
        · rw [if_pos ⟨rfl, q⟩]; exact ⟨fun _ => .inr q, fun _ => rfl⟩
        · rw [if_neg (fun k => q k.2)]; exact ⟨.inl, fun k => k.elim id (fun k => absurd k q)⟩
      have m171 : ∀ y, mkd S (wr σ 172 t (i32 (S : Int))) y ↔ mkd S σ y := fun y => by unfold mkd; rw [w1.rd (j := 171) rfl]
      have M1 : MT N S (wr σ 172 t (i32 (S : Int))) := ⟨by rw [w1.2 72 rfl]; exact a1.1, fun y hy => ⟨by rw [w1.rd (j := 171) rfl]; exact (a1.2 y hy).1, by
        rw [rd_wr]
        by_cases q : y = t
        · rw [if_pos ⟨rfl, q⟩]; exact ⟨S, Nat.le_refl _, rfl⟩
        · rw [if_neg (fun k => q k.2)]; exact (a1.2 y hy).2⟩⟩
      have W1 : rwL (wr σ 172 t (i32 (S : Int))) (W.map Prod.fst) := a2.2.fr w1 rfl
      have ubE : ub N G S (wr σ 172 t (i32 (S : Int))) = ub N G S σ := ct_congr N (fun y _ => by rw [w1.rd (j := 171) rfl])
      have noO : o = false → (t, true) ∉ W := fun _ h => a5.1 t h rfl
      -- the row goes on without it
      have drop : ∀ dp' c', (∀ y, y ∈ W → y ≠ (t, true)) → (∀ t', t' < N → mkd S σ t' → ¬ (dnd S σ t' ∨ t' = t) → (t', true) ∈ W) → (2 ≤ G.1 t → mkd S σ t) → (G.1 t < 2 ∨ mQ N G S (wr σ 172 t (i32 (S : Int))) t) → rC N G r (mQ N G S (wr σ 172 t (i32 (S : Int)))) dp' c' →
          (∃ σ', (∀ v1, rn L xs (d + 2) 346 62 [.ref 123, v1, .int (i32 ((t, o) :: W).length), .int (i32 t), v4, v5, v6] [] σ = some (.inl (some (.int 1)), σ')) ∧ ¬ gAc G (gRt r) ∧ frM [169, 171, 172, 176] [] σ σ') ∨
          (∃ σ' Q' dp' c', (∀ v1, rn L xs (d + 2) 346 62 [.ref 123, v1, .int (i32 ((t, o) :: W).length), .int (i32 t), v4, v5, v6] [] σ = some (.inl (some (.int 0)), σ')) ∧ TM N G r σ' ∧ MT N S σ' ∧ rC N G r Q' dp' c' ∧ (G.1 (r x) < 2 ∨ Q' (r x)) ∧ frM [169, 171, 172, 176] [] σ σ') := by
        intro dp' c' h1 h2 h2' h3 h4
        have qm : ∀ y, mQ N G S σ y → mQ N G S (wr σ 172 t (i32 (S : Int))) y := fun y h => ⟨(r172 y).mpr (.inl h.1), h.2⟩
        have up : ∀ A y, qP G r (mQ N G S σ) A y → qP G r (mQ N G S (wr σ 172 t (i32 (S : Int)))) A y := by
          rintro A y (a | a | a)
          · exact .inl a
          · exact .inr (.inl (qm _ a))
          · exact .inr (.inr a)
        have I1 : qI N G r S x dp' c' W (wr σ 172 t (i32 (S : Int))) := by
          refine ⟨M1, W1, fun e he => ?_, fun t' ht' hmk => ?_, fun t' ht' hdn hk => ?_, a5.2, (a6.2.mono (fun y hy => qP_drop (e := (t, o)) h3 (up _ y hy))), fun dd hdd => (a7 dd hdd).2, h4, qP_drop (e := (t, o)) h3 (up _ x a9)⟩
          · obtain ⟨b1, b2, b3⟩ := a3 e (List.mem_cons_of_mem _ he)
            refine ⟨b1, b2, fun ho => ⟨(b3 ho).1, (m171 _).mpr (b3 ho).2.1, fun hd => ?_⟩⟩
            rcases (r172 _).mp hd with q | q
            · exact (b3 ho).2.2 q
            · exact h1 e he (Prod.ext q ho)
          · have := (m171 _).mp hmk
            exact ⟨(a4 t' ht' this).1, fun hd => h2 t' ht' this (fun k => hd ((r172 _).mpr k))⟩
          · rw [m171]
            rcases (r172 _).mp hdn with q | q
            · exact a4' t' ht' q hk
            · rw [q] at hk ⊢; exact h2' hk
        rcases ih W _ dp' c' (.int (i32 t)) v4 v5 v6 T1 I1 (by rw [ubE]; omega) (by rw [ubE]; omega) with ⟨σ', i1, i2, i3⟩ | ⟨σ', Q', dp'', c'', i1, i2, i3, i4, i5, i6⟩
        · exact .inl ⟨σ', fun v1 => (p62 v1).trans (i1 _), i2, (w1.sub rfl rfl).trans i3⟩
        · exact .inr ⟨σ', Q', dp'', c'', fun v1 => (p62 v1).trans (i1 _), i2, i3, i4, i5, (w1.sub rfl rfl).trans i6⟩
      have sameQ : (G.1 t < 2 ∨ dnd S σ t) → ∀ y, mQ N G S (wr σ 172 t (i32 (S : Int))) y ↔ mQ N G S σ y := by
        intro h y
        constructor
        · rintro ⟨q1, q2, q3⟩
          rcases (r172 y).mp q1 with q | q
          · exact ⟨q, q2, q3⟩
          · subst q
            rcases h with h | h
            · omega
            · exact ⟨h, q2, q3⟩
        · rintro ⟨q1, q2⟩; exact ⟨(r172 y).mpr (.inl q1), q2⟩
      have sameC : (G.1 t < 2 ∨ dnd S σ t) → rC N G r (mQ N G S (wr σ 172 t (i32 (S : Int)))) dp c := by
        intro h
        have := sameQ h
        have e : mQ N G S (wr σ 172 t (i32 (S : Int))) = mQ N G S σ := funext fun y => propext (this y)
        rw [e]; exact a8
      have tail : ∀ t', t' < N → mkd S σ t' → ¬ (dnd S σ t' ∨ t' = t) → (t', true) ∈ W := by
        intro t' ht' hmk hd
        have := (a4 t' ht' hmk).2 (fun k => hd (.inl k))
        rcases List.mem_cons.mp this with q | q
        · exact absurd (.inr (congrArg Prod.fst q)) hd
        · exact q
      by_cases hmk : mkd S σ t
      · have hbx : 2 ≤ G.1 t := (a4 t ht hmk).1
        have go : ∀ v1, rn L xs (d + 2) 346 26 [.ref 123, v1, .int (i32 ((t, o) :: W).length), v3, v4, v5, v6] [] σ = rn L xs (d + 2) 346 62 [.ref 123, v1, .int (i32 ((t, o) :: W).length), .int (i32 t), v4, v5, v6] [] σ := fun v1 => by rw [start v1, show rd σ 171 t = i32 (S : Int) from hmk, c2_refl]
        have nin : ∀ y, y ∈ W → y ≠ (t, true) := fun y hy q => a5.1 t (q ▸ hy) rfl
        by_cases hdn : dnd S σ t
        · rcases drop dp c nin tail (fun _ => hmk) (.inr ⟨(r172 t).mpr (.inr rfl), hbx, ht⟩) (sameC (.inr hdn)) with ⟨σ', i1, i2⟩ | ⟨σ', Q', dp', c', i1, i2⟩
          · exact .inl ⟨σ', fun v1 => (go v1).trans (i1 v1), i2⟩
          · exact .inr ⟨σ', Q', dp', c', fun v1 => (go v1).trans (i1 v1), i2⟩
        · -- it is closed now
          have ho : o = true := by
            rcases List.mem_cons.mp ((a4 t ht hmk).2 hdn) with q | q
            · exact (congrArg Prod.snd q).symm
            · exact absurd rfl (nin _ q)
          have nQ : ¬ mQ N G S σ t := fun q => hdn q.1
          have C1 : rC N G r (mQ N G S (wr σ 172 t (i32 (S : Int)))) (fun y => if y = t then c + 1 else dp y) (c + 1) := by
            intro y hy
            by_cases q : y = t
            · subst q
              refine ⟨ht, hbx, hrt, by show 0 < (if y = y then c + 1 else dp y); rw [if_pos rfl]; omega, by show (if y = y then c + 1 else dp y) ≤ c + 1; rw [if_pos rfl]; exact Nat.le_refl _, fun u hu => ?_⟩
              rcases a6.1 ho u hu with a | a | ⟨v, a, _⟩
              · exact .inl a
              · have := a8 (r u) a
                have ne : r u ≠ y := fun q => nQ (q ▸ a)
                refine .inr ⟨⟨(r172 _).mpr (.inl a.1), a.2⟩, ?_⟩
                show (if r u = y then c + 1 else dp (r u)) < (if y = y then c + 1 else dp y)
                rw [if_neg ne, if_pos rfl]; omega
              · cases a
            · have hq : mQ N G S σ y := ⟨((r172 y).mp hy.1).elim id (fun k => absurd k q), hy.2⟩
              obtain ⟨h1, h2, h3, h4, h5, h6⟩ := a8 y hq
              refine ⟨h1, h2, h3, by show 0 < (if y = t then c + 1 else dp y); rw [if_neg q]; exact h4, by show (if y = t then c + 1 else dp y) ≤ c + 1; rw [if_neg q]; omega, fun u hu => ?_⟩
              rcases h6 u hu with a | ⟨a, b⟩
              · exact .inl a
              · have ne : r u ≠ t := fun q => nQ (q ▸ a)
                refine .inr ⟨⟨(r172 _).mpr (.inl a.1), a.2⟩, ?_⟩
                show (if r u = t then c + 1 else dp (r u)) < (if y = t then c + 1 else dp y)
                rw [if_neg ne, if_neg q]; exact b
          rcases drop _ _ nin tail (fun _ => hmk) (.inr ⟨(r172 t).mpr (.inr rfl), hbx, ht⟩) C1 with ⟨σ', i1, i2⟩ | ⟨σ', Q', dp', c', i1, i2⟩
          · exact .inl ⟨σ', fun v1 => (go v1).trans (i1 v1), i2⟩
          · exact .inr ⟨σ', Q', dp', c', fun v1 => (go v1).trans (i1 v1), i2⟩
      · have hof : o = false := by
          cases o with
          | false => rfl
          | true => exact absurd (hop rfl).2.1 hmk
        have nin : ∀ y, y ∈ W → y ≠ (t, true) := fun y hy q => noO hof (q ▸ hy)
        have nmk : pv_c2 .eq (rd σ 171 t) (i32 (S : Int)) = false := decide_eq_false hmk
        by_cases hbx : G.1 t < 2
        · have go : ∀ v1, rn L xs (d + 2) 346 26 [.ref 123, v1, .int (i32 ((t, o) :: W).length), v3, v4, v5, v6] [] σ = rn L xs (d + 2) 346 62 [.ref 123, v1, .int (i32 ((t, o) :: W).length), .int (i32 t), v4, v5, v6] [] σ := fun v1 => by rw [start v1, nmk, cond_false, c_f (by omega)]
          rcases drop dp c nin tail (fun k => by omega) (.inl hbx) (sameC (.inl hbx)) with ⟨σ', i1, i2⟩ | ⟨σ', Q', dp', c', i1, i2⟩
          · exact .inl ⟨σ', fun v1 => (go v1).trans (i1 v1), i2⟩
          · exact .inr ⟨σ', Q', dp', c', fun v1 => (go v1).trans (i1 v1), i2⟩
        · have hbx : 2 ≤ G.1 t := by omega
          have ndn : ¬ dnd S σ t := fun k => hmk (a4' t ht k hbx)
          have go : ∀ v1, rn L xs (d + 2) 346 26 [.ref 123, v1, .int (i32 ((t, o) :: W).length), v3, v4, v5, v6] [] σ = rn L xs (d + 2) 346 78 [.ref 123, v1, .int (i32 ((t, o) :: W).length), .int (i32 t), v4, v5, v6] [] σ := fun v1 => by rw [start v1, nmk, cond_false, c_t (by omega)]
          have lmap : (((t, o) :: W).map Prod.fst).length = ((t, o) :: W).length := List.length_map _
          have ubp : 0 < ub N G S σ := by
            have := ct_flip (p := fun y => 2 ≤ G.1 y ∧ ¬ rd σ 171 y = i32 (S : Int)) (q := fun y => (2 ≤ G.1 y ∧ ¬ rd σ 171 y = i32 (S : Int)) ∧ y ≠ t) (a := t) ⟨hbx, hmk⟩ (fun k => k.2 rfl) N ht (fun y _ hy => ⟨fun k => ⟨k, hy⟩, fun k => k.1⟩)
            unfold ub; omega
          have oo := opn_m (L := L) (xs := xs) hr2 hT hS a1 a2 ht hbx (by rw [lmap]; show W.length + 1 + 2 ≤ _; omega) d v4 v5 v6
          rw [lmap] at oo
          rcases oo with ⟨s1, y, j1, j2, j3, j4, j5⟩ | ⟨s1, l, z3, z4, z5, z6, j1, T2, M2, W2, w2, m2, ll, j2, j3⟩
          · refine .inl ⟨s1, fun v1 => (go v1).trans (j1 v1), ?_, j5.sub rfl rfl⟩
            rintro ⟨dd, D, _, hd, hk⟩
            have ok : dOK G r dd := ⟨hd, hk⟩
            have d1 := ok.kid hbx j2
            have d2 : dd (r y) = dd y := hd _ _ (hr2 y)
            have hryN : r y < N := hT.rlt (by
              obtain ⟨c1, c2, c3⟩ := k3 hbx
              unfold kids at j2
              by_cases q : G.1 t = 3
              · rw [if_pos q] at j2; rw [List.mem_singleton.mp j2]; exact c2
              · rw [if_neg q] at j2
                rcases List.mem_cons.mp j2 with q2 | q2
                · rw [q2]; exact (c3 q).2
                · rw [List.mem_singleton.mp q2]; exact c2)
            rcases j4 with j4 | j4
            · have := (a4 (r y) hryN j4).2 j3
              rcases List.mem_cons.mp this with q | q
              · have : r y = t := congrArg Prod.fst q
                rw [this] at d2; omega
              · have := (a7 dd ok).1 (r y) q
                have : dd t < dd (r y) := this
                omega
            · rw [j4] at d2; omega
          · have hl2 : ∀ e, e ∈ l.map (fun z => (z, false)) → e.2 = false := fun e he => by
              obtain ⟨z, _, q⟩ := List.mem_map.mp he
              rw [← q]
            have mk2 : ∀ y, mkd S s1 y ↔ mkd S σ y ∨ y = t := fun y => by
              unfold mkd; rw [m2]
              by_cases q : y = t
              · rw [if_pos q]; exact ⟨fun _ => .inr q, fun _ => rfl⟩
              · rw [if_neg q]; exact ⟨.inl, fun k => k.elim id (fun k => absurd k q)⟩
            have dn2 : ∀ y, dnd S s1 y ↔ dnd S σ y := fun y => by unfold dnd; rw [w2.rd (j := 172) rfl]
            have eQ : mQ N G S s1 = mQ N G S σ := funext fun y => propext (by unfold mQ; rw [dn2])
            have mapE : ((l.map (fun z => (z, false))) ++ (t, true) :: W).map Prod.fst = l ++ ((t, o) :: W).map Prod.fst := by
              rw [List.map_append, List.map_map]
              congr 1
              show List.map (fun z => z) l = l
              exact List.map_id l
            have I2 : qI N G r S x dp c ((l.map (fun z => (z, false))) ++ (t, true) :: W) s1 := by
              refine ⟨M2, by rw [mapE]; exact W2, fun e he => ?_, fun t' ht' hm' => ?_, fun t' ht' hdn hk => (mk2 _).mpr (.inl (a4' t' ht' ((dn2 _).mp hdn) hk)), qN_app _ hl2 (fun e he m hm => ?_) ⟨fun m hm q => ?_, a5.2⟩, ?_, fun dd hdd => qD_app _ hl2 (fun e he m hm => ?_) (a7 dd hdd), by rw [eQ]; exact a8, ?_⟩
              · rcases List.mem_append.mp he with he | he
                · obtain ⟨z, hz, q⟩ := List.mem_map.mp he
                  obtain ⟨y, hy, q1, q2, q3⟩ := j2 z hz
                  rw [← q]
                  have hyN : y < N := by
                    obtain ⟨c1, c2, c3⟩ := k3 hbx
                    unfold kids at hy
                    by_cases q : G.1 t = 3
                    · rw [if_pos q] at hy; rw [List.mem_singleton.mp hy]; exact c2
                    · rw [if_neg q] at hy
                      rcases List.mem_cons.mp hy with q2 | q2
                      · rw [q2]; exact (c3 q).2
                      · rw [List.mem_singleton.mp q2]; exact c2
                  exact ⟨by rw [q1]; exact hT.rlt hyN, by show r z = z; rw [q1, hr2], fun k => absurd k Bool.false_ne_true⟩
                · rcases List.mem_cons.mp he with q | q
                  · rw [q]; exact ⟨ht, hrt, fun _ => ⟨hbx, (mk2 t).mpr (.inr rfl), fun k => ndn ((dn2 t).mp k)⟩⟩
                  · obtain ⟨b1, b2, b3⟩ := a3 e (List.mem_cons_of_mem _ q)
                    exact ⟨b1, b2, fun ho => ⟨(b3 ho).1, (mk2 _).mpr (.inl (b3 ho).2.1), fun k => (b3 ho).2.2 ((dn2 _).mp k)⟩⟩
              · rcases (mk2 t').mp hm' with q | q
                · refine ⟨(a4 t' ht' q).1, fun hd => List.mem_append_right _ ?_⟩
                  rcases List.mem_cons.mp ((a4 t' ht' q).2 (fun k => hd ((dn2 _).mpr k))) with q2 | q2
                  · exact absurd (congrArg Prod.fst q2) (fun k => hmk (by have k : t' = t := k; rw [← k]; exact q))
                  · exact List.mem_cons_of_mem _ q2
                · rw [q]; exact ⟨hbx, fun _ => List.mem_append_right _ List.mem_cons_self⟩
              · obtain ⟨z, hz, q⟩ := List.mem_map.mp he
                obtain ⟨y, hy, q1, q2, q3⟩ := j2 z hz
                rw [← q]
                rcases List.mem_cons.mp hm with q4 | q4
                · have : m = t := congrArg Prod.fst q4
                  rw [this]; exact q3
                · intro k
                  have k : z = m := k
                  exact q2 (by rw [k]; exact ((a3 _ (List.mem_cons_of_mem _ q4)).2.2 rfl).2.1)
              · have : t = m := q
                rw [← this] at hm
                exact noO hof hm
              · refine qK_app _ hl2 ⟨fun _ y hy => ?_, ?_⟩
                · rw [eQ]
                  rcases j3 y hy with q | q
                  · by_cases q2 : G.1 (r y) < 2
                    · exact .inl q2
                    · refine .inr (.inl ⟨q, by omega, hT.rlt ?_⟩)
                      obtain ⟨c1, c2, c3⟩ := k3 hbx
                      unfold kids at hy
                      by_cases q : G.1 t = 3
                      · rw [if_pos q] at hy; rw [List.mem_singleton.mp hy]; exact c2
                      · rw [if_neg q] at hy
                        rcases List.mem_cons.mp hy with q2 | q2
                        · rw [q2]; exact (c3 q).2
                        · rw [List.mem_singleton.mp q2]; exact c2
                  · refine .inr (.inr ⟨(r y, false), ?_, rfl⟩)
                    rw [List.append_nil]
                    exact List.mem_reverse.mpr (List.mem_map_of_mem (f := fun z => (z, false)) q)
                · rw [eQ]
                  refine a6.2.mono (fun y hy => ?_)
                  rcases hy with a | a | ⟨u, a, b⟩
                  · exact .inl a
                  · exact .inr (.inl a)
                  · have := List.mem_singleton.mp a
                    rw [this] at b
                    exact .inr (.inr ⟨(t, true), List.mem_cons_self, b⟩)
              · obtain ⟨z, hz, q⟩ := List.mem_map.mp he
                obtain ⟨y, hy, q1, q2, q3⟩ := j2 z hz
                rw [← q]
                have d1 := hdd.kid hbx hy
                have d2 : dd (r y) = dd y := hdd.1 _ _ (hr2 y)
                show dd z < dd m
                rw [q1, d2]
                rcases List.mem_cons.mp hm with q4 | q4
                · have : m = t := congrArg Prod.fst q4
                  rw [this]; exact d1
                · have : dd t < dd m := (a7 dd hdd).1 m q4
                  omega
              · rw [eQ]
                rcases a9 with a | a | ⟨u, a, b⟩
                · exact .inl a
                · exact .inr (.inl a)
                · rcases List.mem_cons.mp a with a | a
                  · rw [a] at b; exact .inr (.inr ⟨(t, true), List.mem_append_right _ List.mem_cons_self, b⟩)
                  · exact .inr (.inr ⟨u, List.mem_append_right _ (List.mem_cons_of_mem _ a), b⟩)
            have ubE2 : ub N G S s1 + 1 = ub N G S σ := by
              refine ct_flip (p := fun y => 2 ≤ G.1 y ∧ ¬ rd σ 171 y = i32 (S : Int)) (q := fun y => 2 ≤ G.1 y ∧ ¬ rd s1 171 y = i32 (S : Int)) (a := t) ⟨hbx, hmk⟩ (fun k => k.2 ((mk2 t).mpr (.inr rfl))) N ht (fun y _ hy => ?_)
              rw [m2, if_neg hy]
            have len2 : ((l.map (fun z => (z, false))) ++ (t, true) :: W).length = l.length + (W.length + 1) := by rw [List.length_append, List.length_map]; rfl
            have lenE : (l ++ ((t, o) :: W).map Prod.fst).length = ((l.map (fun z => (z, false))) ++ (t, true) :: W).length := by rw [← mapE, List.length_map]
            rcases ih _ s1 dp c z3 z4 z5 z6 T2 I2 (by rw [len2]; omega) (by rw [len2]; omega) with ⟨σ', i1, i2, i3⟩ | ⟨σ', Q', dp'', c'', i1, i2, i3, i4, i5, i6⟩
            · refine .inl ⟨σ', fun v1 => ?_, i2, (w2.sub rfl rfl).trans i3⟩
              obtain ⟨u1, hu⟩ := j1 v1
              rw [go v1, hu, lenE]; exact i1 _
            · refine .inr ⟨σ', Q', dp'', c'', fun v1 => ?_, i2, i3, i4, i5, (w2.sub rfl rfl).trans i6⟩
              obtain ⟨u1, hu⟩ := j1 v1
              rw [go v1, hu, lenE]; exact i1 _
end RGM3
