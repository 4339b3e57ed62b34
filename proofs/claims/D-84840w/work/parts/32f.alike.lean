/-! TYPES OF THE COMPONENT: two are made alike -/
theorem alH.refl {r : Nat → Nat} {h : Nat → Nat → Prop} : alH r h r h := ⟨fun t u q => ⟨t, u, rfl, q, rfl⟩, fun s v q => ⟨v, q, rfl⟩⟩
theorem alH.trans {r r1 r2 : Nat → Nat} {h h1 h2 : Nat → Nat → Prop} (a : alH r h r1 h1) (b : alH r1 h1 r2 h2) (hs : ∀ x y, r1 x = r1 y → r2 x = r2 y) : alH r h r2 h2 := by
  refine ⟨fun t u q => ?_, fun s v q => ?_⟩
  · obtain ⟨s, v, e1, e2, e3⟩ := b.1 t u q
    obtain ⟨s', v', f1, f2, f3⟩ := a.1 s v e2
    exact ⟨s', v', (hs _ _ f1).trans e1, f2, (hs _ _ f3).trans e3⟩
  · obtain ⟨u, e1, e2⟩ := a.2 s v q
    obtain ⟨u', f1, f2⟩ := b.2 s u e1
    exact ⟨u', f1, f2.trans (hs _ _ e2)⟩
def hC (hl : Nat → List Nat) (hv : Nat → Nat) (t u : Nat) : Prop := ∃ i, i ∈ hl t ∧ hv i = u
theorem alH_join {r : Nat → Nat} {hl : Nat → List Nat} {hv : Nat → Nat} {f g : Nat} (hf : r f = f) (hg : r g = g) (hn : f ≠ g) : alH r (hC hl hv) (gUp r f g) (hC (hlJ hl f g) hv) := by
  have uf : ∀ t, r t = f → gUp r f g t = g := fun t h => if_pos h
  have un : ∀ t, r t ≠ f → gUp r f g t = r t := fun t h => if_neg h
  refine ⟨fun t u q => ?_, fun s v q => ?_⟩
  · obtain ⟨i, hi, e⟩ := q
    by_cases p : gUp r f g t = g
    · rw [p, show hlJ hl f g g = hl g ++ hl f from if_pos rfl] at hi
      rcases List.mem_append.mp hi with hi | hi
      · exact ⟨g, u, by rw [p, un g (by rw [hg]; exact fun q => hn q.symm), hg], ⟨i, by rw [hg]; exact hi, e⟩, rfl⟩
      · exact ⟨f, u, by rw [p, uf f hf], ⟨i, by rw [hf]; exact hi, e⟩, rfl⟩
    · have p2 : r t ≠ f := fun q => p (uf t q)
      rw [show hlJ hl f g (gUp r f g t) = hl (gUp r f g t) from if_neg p, un t p2] at hi
      exact ⟨t, u, rfl, ⟨i, hi, e⟩, rfl⟩
  · obtain ⟨i, hi, e⟩ := q
    refine ⟨v, ⟨i, ?_, e⟩, rfl⟩
    by_cases p : r s = f
    · rw [uf s p, show hlJ hl f g g = hl g ++ hl f from if_pos rfl]; rw [p] at hi; exact List.mem_append_right _ hi
    · rw [un s p]
      by_cases p2 : r s = g
      · rw [p2] at hi ⊢; rw [show hlJ hl f g g = hl g ++ hl f from if_pos rfl]; exact List.mem_append_left _ hi
      · rw [show hlJ hl f g (r s) = hl (r s) from if_neg p2]; exact hi
section ALC
variable {L : Nat} {xs : Nat → Int32} {σ σ' : tvS}
def frT (S T F : List Nat) (σ σ' : tvS) : Prop := frG (50 :: S) T σ σ' ∧ ∀ i, inL F i = false → rd σ' 50 i = rd σ 50 i
theorem frT.refl {S T F : List Nat} : frT S T F σ σ := ⟨frG.refl, fun _ _ => rfl⟩
theorem frT.trans {S T F : List Nat} {a b e : tvS} (h : frT S T F a b) (g : frT S T F b e) : frT S T F a e := ⟨h.1.trans g.1, fun i hi => (g.2 i hi).trans (h.2 i hi)⟩
theorem frT.sub {S T F S' T' F' : List Nat} {a b : tvS} (h : frT S T F a b) (hs : (S.all fun k => inL S' k) = true) (ht : (T.all fun k => inL T' k) = true) (hf : (F.all fun k => inL F' k) = true) : frT S' T' F' a b :=
  ⟨h.1.mono (fun k hk => by
    have hk : (Nat.beq k 50 || inL S' k) = false := hk
    show (Nat.beq k 50 || inL S k) = false
    rw [Bool.or_eq_false_iff] at hk ⊢
    exact ⟨hk.1, inL_sub hs k hk.2⟩) (inL_sub ht), fun i hi => h.2 i (inL_sub hf i hi)⟩
theorem frW.T {S : List Nat} (T F : List Nat) (h : frW S σ σ') (h0 : inL S 50 = false) : frT S T F σ σ' :=
  ⟨(h.mono (fun k hk => by
    have hk : (Nat.beq k 50 || inL S k) = false := hk
    rw [Bool.or_eq_false_iff] at hk
    exact hk.2)).G T, fun i _ => h.1 50 h0 i⟩
theorem frT_wr {S T F : List Nat} {k i : Nat} {x : Int32} (h : inL S k = true) (h' : k ≠ 50) : frT S T F σ (wr σ k i x) :=
  ⟨frG_wr (by show (Nat.beq k 50 || inL S k) = true; rw [h, Bool.or_true]), fun j _ => wr_nek (fun q => h' q.symm)⟩
theorem frT_w50 {S T F : List Nat} {i : Nat} {x : Int32} (h : inL F i = true) : frT S T F σ (wr σ 50 i x) :=
  ⟨frG_wr rfl, fun j hj => wr_nei (fun q => by rw [q, h] at hj; cases hj)⟩
theorem frT.rd {S T F : List Nat} (h : frT S T F σ σ') {j : Nat} (hj : inL (50 :: S) j = false) (i : Nat) : rd σ' j i = rd σ j i := h.1.1 j hj i
def flP : List (Nat × Nat) → List Int
  | [] => []
  | p :: r => (p.1 : Int) :: (p.2 : Int) :: flP r
theorem flP_len : ∀ P, (flP P).length = 2 * P.length := by
  intro P
  induction P with
  | nil => rfl
  | cons p r ih => show (flP r).length + 1 + 1 = 2 * (r.length + 1); rw [ih]; omega
theorem TC.T {N : Nat} {G : tG} {r : Nat → Nat} {S T F : List Nat} (h : TC N G r σ) (g : frT S T F σ σ') (hF : inL F 8 = false) (hS : inL S 51 = false ∧ inL S 52 = false ∧ inL S 53 = false ∧ inL S 54 = false) (hT : (∀ j, 51 ≤ j → j ≤ 58 → inL T j = false)) : TC N G r σ' :=
  h.fr g.1 (g.2 8 hF) ⟨hS.1, hS.2.2.1, hS.2.2.2⟩ hT (h.2.2.2.2.1.fr (fun i => g.1.1 52 hS.2.1 i)) (fun x hx => (h.2.2.2.2.2.1 x hx).1)
theorem HO.T {N : Nat} {r : Nat → Nat} {hl : Nat → List Nat} {hv : Nat → Nat} {H : Nat} {S T F : List Nat} (h : HO N r hl hv H σ) (g : frT S T F σ σ') (hF : inL F 11 = false)
    (hS : inL S 55 = false ∧ inL S 56 = false ∧ inL S 59 = false ∧ inL S 60 = false) (hT : inL T 59 = false ∧ inL T 60 = false) : HO N r hl hv H σ' := h.fr g.1 (g.2 11 hF) hS hT
/-- push, with the frame that is used here -/
theorem push_T {K1 K2 : Nat} {W : List Int} (hR : ROOM K1 K2 σ) (h : WK W σ) (hW : W.length < 524288) (z : Int) (d : Nat) :
    ∃ σ', rn L xs (d + 1) 85 0 [.ref 50, .int (i32 z)] [] σ = some (.inl none, σ') ∧ WK (z :: W) σ' ∧ ROOM K1 K2 σ' ∧ frT [61] [61] [14] σ σ' := by
  obtain ⟨σ', a, b, c, e, f⟩ := push_c (L := L) (xs := xs) hR h hW z d
  exact ⟨σ', a, b, c, f, fun i hi => e 50 i (by decide) (fun q => by rw [q.2] at hi; cases hi)⟩
theorem n5158 {j : Nat} (h1 : 51 ≤ j) (h2 : j ≤ 58) : inL [61] j = false := by
  have : j = 51 ∨ j = 52 ∨ j = 53 ∨ j = 54 ∨ j = 55 ∨ j = 56 ∨ j = 57 ∨ j = 58 := by omega
  rcases this with h | h | h | h | h | h | h | h <;> subst h <;> rfl
/-- only arrows hold -/
def HK (N : Nat) (G : tG) (r : Nat → Nat) (hl : Nat → List Nat) : Prop := ∀ t, t < N → r t = t → hl t ≠ [] → G.1 t = 4
theorem gUp_rt {r : Nat → Nat} {f g t : Nat} (hg : r g = g) (hn : f ≠ g) (ht : gUp r f g t = t) : r t = t ∧ t ≠ f := by
  unfold gUp at ht
  by_cases e : r t = f
  · rw [if_pos e] at ht; rw [← ht, hg] at e; exact absurd e (fun q => hn q.symm)
  · rw [if_neg e] at ht; exact ⟨ht, fun q => e (ht.trans q)⟩
theorem HK.join {N : Nat} {G : tG} {r : Nat → Nat} {hl : Nat → List Nat} {f g : Nat} (h : HK N G r hl) (hf : r f = f) (hg : r g = g) (hn : f ≠ g) (hfN : f < N) (hk : G.1 f = 0 ∨ (G.1 f = G.1 g ∧ 2 ≤ G.1 f)) : HK N G (gUp r f g) (hlJ hl f g) := by
  intro t ht hr hne
  obtain ⟨r1, r2⟩ := gUp_rt hg hn hr
  by_cases e : t = g
  · subst e
    rw [show hlJ hl f t t = hl t ++ hl f from if_pos rfl] at hne
    by_cases q : hl t = []
    · have q2 : hl f ≠ [] := fun k => hne (by rw [q, k]; rfl)
      have := h f hfN hf q2
      rcases hk with hk | hk
      · omega
      · omega
    · exact h t ht r1 q
  · rw [show hlJ hl f g t = hl t from if_neg e] at hne
    exact h t ht r1 hne
theorem hlJ_nil {hl : Nat → List Nat} {f g : Nat} (h : hl f = []) : hlJ hl f g = hl := by
  funext t
  unfold hlJ
  by_cases e : t = g
  · rw [if_pos e, h, List.append_nil, e]
  · rw [if_neg e]
theorem HO.up {N : Nat} {r : Nat → Nat} {hl : Nat → List Nat} {hv : Nat → Nat} {H : Nat} (h : HO N r hl hv H σ) {f g : Nat} (hg : r g = g) (hn : f ≠ g) : HO N (gUp r f g) hl hv H σ := by
  obtain ⟨a1, a2, a3, a4, a5, a6⟩ := h
  exact ⟨a1, a2, a3, a4, fun t ht hr => a5 t ht (gUp_rt hg hn hr).1, fun t t' i ht ht' hr hr' => a6 t t' i ht ht' (gUp_rt hg hn hr).1 (gUp_rt hg hn hr').1⟩
def FAL : List Nat := [52, 55, 56, 60, 61]
theorem al_loop {K1 K2 N : Nat} {G : tG} {r0 : Nat → Nat} {h0 : Nat → Nat → Prop} {hv : Nat → Nat} {H x1 x2 : Nat} (d : Nat) (x : Int32) : ∀ (n : Nat) (P : List (Nat × Nat)) (r : Nat → Nat) (hl : Nat → List Nat) (σ : tvS) (v2 v3 v4 v5 v6 : Value),
    TC N G r σ → HO N r hl hv H σ → HK N G r hl → ROOM K1 K2 σ → gU G r0 x1 x2 r P → alH r0 h0 r (hC hl hv) → (∀ p, p ∈ P → p.1 < N ∧ p.2 < N) → WK (flP P) σ → P.length + ct (fun y => r y = y) N ≤ N + 1 → 2 * ct (fun y => r y = y) N + P.length ≤ n →
    (∃ σ', rn L xs (d + 2) 94 15 [.ref 50, .int x, v2, v3, v4, v5, v6] [] σ = some (.inl (some (.int 0)), σ') ∧ alF G r0 x1 x2 ∧ ROOM K1 K2 σ' ∧ frT FAL [61] [14] σ σ') ∨
    (∃ σ' r' hl' w2 w3 w4 w5 w6, rn L xs (d + 2) 94 15 [.ref 50, .int x, v2, v3, v4, v5, v6] [] σ = rn L xs (d + 2) 94 209 [.ref 50, .int x, w2, w3, w4, w5, w6] [] σ' ∧ TC N G r' σ' ∧ HO N r' hl' hv H σ' ∧ HK N G r' hl' ∧ ROOM K1 K2 σ' ∧ alC G r0 x1 x2 r' ∧ alH r0 h0 r' (hC hl' hv) ∧ frT FAL [61] [14] σ σ') := by
  intro n
  induction n with
  | zero =>
    intro P r hl σ v2 v3 v4 v5 v6 hT hH hK hR hU hA hP hW hc hn
    have : P = [] := List.eq_nil_of_length_eq_zero (by omega)
    subst this
    rw [e94_15 (d + 1), hW.1, c1_le (by show -2147483648 ≤ ((0 : Nat) : Int); omega) (by show ((0 : Nat) : Int) < _; omega), c_t (by show ((0 : Nat) : Int) ≤ 0; omega)]
    exact .inr ⟨σ, r, hl, v2, v3, v4, v5, v6, rfl, hT, hH, hK, hR, hU.done, hA, frT.refl⟩
  | succ n ih =>
    intro P r hl σ v2 v3 v4 v5 v6 hT hH hK hR hU hA hP hW hc hn
    cases P with
    | nil =>
      rw [e94_15 (d + 1), hW.1, c1_le (by show -2147483648 ≤ ((0 : Nat) : Int); omega) (by show ((0 : Nat) : Int) < _; omega), c_t (by show ((0 : Nat) : Int) ≤ 0; omega)]
      exact .inr ⟨σ, r, hl, v2, v3, v4, v5, v6, rfl, hT, hH, hK, hR, hU.done, hA, frT.refl⟩
    | cons p P =>
      obtain ⟨s, t⟩ := p
      have hN := hT.lt hR
      have hfl := flP_len P
      have hPl : P.length + 1 + ct (fun y => r y = y) N ≤ N + 1 := hc
      have hn' : 2 * ct (fun y => r y = y) N + (P.length + 1) ≤ n + 1 := hn
      obtain ⟨hs, ht⟩ := hP (s, t) List.mem_cons_self
      have hs : s < N := hs
      have ht : t < N := ht
      have hP' : ∀ p, p ∈ P → p.1 < N ∧ p.2 < N := fun p hp => hP p (List.mem_cons_of_mem _ hp)
      have lW : ∀ s : tvS, ROOM K1 K2 s → ln s 61 ≤ 1000000 := fun s h => Nat.le_trans (h.le (k := 61) (M := 524288) (by decide)) (by omega)
      rw [e94_15 (d + 1), hW.1, c1_le (by omega) (by show (((flP P).length + 1 + 1 : Nat) : Int) < _; omega), c_f (by show ¬ (((flP P).length + 1 + 1 : Nat) : Int) ≤ 0; omega)]
      -- two are taken
      obtain ⟨p1, q1⟩ := pop_c (L := L) (xs := xs) (x := (s : Int)) (W := (t : Int) :: flP P) hW (lW _ hR) d
      rw [bI_ok p1]
      have k1 : frT FAL [61] [14] σ (wr σ 50 14 (i32 ((t : Int) :: flP P).length)) := frT_w50 rfl
      have T1 := hT.T (frT_w50 (S := []) (T := []) (F := [14]) (i := 14) (x := i32 ((t : Int) :: flP P).length) rfl) rfl ⟨rfl, rfl, rfl, rfl⟩ (fun _ _ _ => rfl)
      obtain ⟨s2, f1, T2, R2, w2⟩ := find_C (L := L) (xs := xs) T1 hR.wr hs d jv jv jv
      rw [bI_ok f1]
      have q2 := q1.fr w2 rfl rfl
      obtain ⟨p3, q3⟩ := pop_c (L := L) (xs := xs) q2 (lW _ R2) d
      rw [bI_ok p3]
      have T3 := T2.T (frT_w50 (S := []) (T := []) (F := [14]) (i := 14) (x := i32 (flP P).length) rfl) rfl ⟨rfl, rfl, rfl, rfl⟩ (fun _ _ _ => rfl)
      obtain ⟨s4, f4, T4, R4, w4⟩ := find_C (L := L) (xs := xs) T3 R2.wr ht d jv jv jv
      rw [bI_ok f4]
      have q4 := q3.fr w4 rfl rfl
      have k4 : frT FAL [61] [14] σ s4 := k1.trans ((w2.T [61] [14] rfl).sub rfl rfl rfl |>.trans ((frT_w50 rfl).trans ((w4.T [61] [14] rfl).sub rfl rfl rfl)))
      have kh : frT [52] [] [14] σ s4 := (frT_w50 rfl).trans ((w2.T [] [14] rfl).trans ((frT_w50 rfl).trans (w4.T [] [14] rfl)))
      have H4 : HO N r hl hv H s4 := hH.T kh rfl ⟨rfl, rfl, rfl, rfl⟩ ⟨rfl, rfl⟩
      have b1 : r s < N := hT.rlt hs
      have b2 : r t < N := hT.rlt ht
      rw [c2_ne (by omega) (by omega) (by omega) (by omega)]
      by_cases e : r s = r t
      · rw [c_f (by omega)]
        rcases ih P r hl s4 _ _ _ _ _ T4 H4 hK R4 (hU.same e) hA hP' q4 (by omega) (by omega) with ⟨σ', i1, i2, i3, i4⟩ | ⟨σ', r', hl', w2, w3, w4, w5, w6, i1, i2, i3, i4, i5, i6, i7, i8⟩
        · exact .inl ⟨σ', i1, i2, i3, k4.trans i4⟩
        · exact .inr ⟨σ', r', hl', w2, w3, w4, w5, w6, i1, i2, i3, i4, i5, i6, i7, k4.trans i8⟩
      · rw [c_t (by omega)]
        obtain ⟨a1, a2, a3, a4, a5, a6, a7, a8⟩ := id T4
        obtain ⟨c1, c2, c3⟩ := a7 (r s) b1
        obtain ⟨g1, g2, g3⟩ := a7 (r t) b2
        have rr : ∀ z, r (r z) = r z := hU.1
        have hl5 : ∀ j, 51 ≤ j → j ≤ 58 → N ≤ ln s4 j ∧ ln s4 j ≤ 1000000 := fun j h1 h2 => by
          rw [a4 j h1 h2]; exact ⟨a3, Nat.le_trans (R4.le (k := 51) (M := 122880) (by decide)) (by omega)⟩
        have l51 := hl5 51 (by omega) (by omega)
        have l52 := hl5 52 (by omega) (by omega)
        have l53 := hl5 53 (by omega) (by omega)
        have l54 := hl5 54 (by omega) (by omega)
        have l55 := hl5 55 (by omega) (by omega)
        have l56 := hl5 56 (by omega) (by omega)
        -- one becomes the other
        have step : ∀ (f g : Nat) (u2 u3 u4 u6 : Value), (f = r s ∧ g = r t) ∨ (f = r t ∧ g = r s) → (G.1 f = 0 ∨ (G.1 f = G.1 g ∧ 2 ≤ G.1 f)) →
            (∃ σ', rn L xs (d + 2) 94 116 [.ref 50, .int x, u2, u3, u4, .int (i32 f), u6] [.int (i32 g)] s4 = some (.inl (some (.int 0)), σ') ∧ alF G r0 x1 x2 ∧ ROOM K1 K2 σ' ∧ frT FAL [61] [14] σ σ') ∨
            (∃ σ' r' hl' w2 w3 w4 w5 w6, rn L xs (d + 2) 94 116 [.ref 50, .int x, u2, u3, u4, .int (i32 f), u6] [.int (i32 g)] s4 = rn L xs (d + 2) 94 209 [.ref 50, .int x, w2, w3, w4, w5, w6] [] σ' ∧ TC N G r' σ' ∧ HO N r' hl' hv H σ' ∧ HK N G r' hl' ∧ ROOM K1 K2 σ' ∧ alC G r0 x1 x2 r' ∧ alH r0 h0 r' (hC hl' hv) ∧ frT FAL [61] [14] σ σ') := by
          intro f g u2 u3 u4 u6 hfg hk
          have hf : r f = f := by rcases hfg with ⟨a, _⟩ | ⟨a, _⟩ <;> rw [a, rr]
          have hg : r g = g := by rcases hfg with ⟨_, a⟩ | ⟨_, a⟩ <;> rw [a, rr]
          have hfN : f < N := by rcases hfg with ⟨a, _⟩ | ⟨a, _⟩ <;> rw [a] <;> assumption
          have hgN : g < N := by rcases hfg with ⟨_, a⟩ | ⟨_, a⟩ <;> rw [a] <;> assumption
          have hne : f ≠ g := by rcases hfg with ⟨a, b⟩ | ⟨a, b⟩ <;> rw [a, b] <;> omega
          have hroot := gUp_root hf hg hne hfN
          obtain ⟨m1, m2, m3⟩ := a7 f hfN
          obtain ⟨n1, n2, n3⟩ := a7 g hgN
          rw [e94_116 (d + 1), c_in (by omega) (by omega) (by omega), c_in (by omega) (by omega) (by omega), i32_ixn (by omega), m1, c1_ne (by omega) (by omega)]
          have w5 : frT [52] [] [] s4 (wr s4 52 f (i32 (g : Int))) := frT_wr rfl (by decide)
          have T5 : TC N G (gUp r f g) (wr s4 52 f (i32 (g : Int))) := T4.fr w5.1 (w5.2 8 rfl) ⟨rfl, rfl, rfl⟩ (fun _ _ _ => rfl) (a5.link hf hg hne hfN hgN) (fun y hy => by
            have := (a6 y hy).1
            unfold gUp; rw [this, if_neg (by omega)])
          have H5 : HO N r hl hv H (wr s4 52 f (i32 (g : Int))) := H4.T w5 rfl ⟨rfl, rfl, rfl, rfl⟩ ⟨rfl, rfl⟩
          have k5 : frT FAL [61] [14] σ (wr s4 52 f (i32 (g : Int))) := k4.trans (w5.sub rfl rfl rfl)
          have q5 : WK (flP P) (wr s4 52 f (i32 (g : Int))) := q4.fr (S := [52]) (frW_wr rfl) rfl rfl
          have hK5 := hK.join hf hg hne hfN hk
          have hA5 := hA.trans (alH_join (hl := hl) (hv := hv) hf hg hne) (fun x y e => gUp_sub e)
          rcases hk with hk | ⟨hk, hk2⟩
          · rw [c_f (by omega)]
            have hlf : hl f = [] := by
              apply Classical.byContradiction
              intro q
              have := hK f hfN hf q
              omega
            rw [hlJ_nil hlf] at hK5 hA5
            rcases ih P (gUp r f g) hl _ _ _ _ _ _ T5 (H5.up hg hne) hK5 R4.wr (hU.step hfg hne (.inl hk) (fun R _ _ hw => hw) (fun R _ hw => ⟨fun q => by omega, hw⟩)) hA5 hP' q5 (by omega) (by omega) with ⟨σ', i1, i2, i3, i4⟩ | ⟨σ', r', hl', w2, w3, w4, w5, w6, i1, i2, i3, i4, i5, i6, i7, i8⟩
            · exact .inl ⟨σ', i1, i2, i3, k5.trans i4⟩
            · exact .inr ⟨σ', r', hl', w2, w3, w4, w5, w6, i1, i2, i3, i4, i5, i6, i7, k5.trans i8⟩
          · rw [c_t (by omega), e94_140 (d + 1)]
            have l60 : ln s4 60 ≤ 1000000 := Nat.le_trans (R4.le (k := 60) (M := 212992) (by decide)) (by omega)
            obtain ⟨s6, j1, H6, w6⟩ := join_c (L := L) (xs := xs) H5 hf hg hne hfN hgN l55 l56 l60 d
            rw [bV_ok j1]
            have T6 := T5.T (w6.T [] [] rfl) rfl ⟨rfl, rfl, rfl, rfl⟩ (fun _ _ _ => rfl)
            have R6 : ROOM K1 K2 s6 := R4.wr.fr w6
            have q6 := q5.fr w6 rfl rfl
            have k6 := k5.trans ((w6.T [] [] rfl).sub (S' := FAL) (T' := [61]) (F' := [14]) rfl rfl rfl)
            obtain ⟨m4, m5, m6⟩ := (T6.2.2.2.2.2.2.1 f hfN).2.2 (by omega)
            obtain ⟨n4, n5, n6⟩ := (T6.2.2.2.2.2.2.1 g hgN).2.2 (by omega)
            have l6 : ∀ j, ln s6 j = ln s4 j := fun j => (w6.ln j).trans rfl
            rw [l6, c_in (by omega) (by omega) (by omega), i32_ixn (by omega), m4]
            obtain ⟨s7, j7, q7, R7, w7⟩ := push_T (L := L) (xs := xs) R6 q6 (by omega) (G.2.1 f : Int) d
            rw [bV_ok j7]
            have l7 : ∀ j, 51 ≤ j → j ≤ 58 → ln s7 j = ln s4 j := fun j h1 h2 => (w7.1.2.2 j (n5158 h1 h2)).1.trans (l6 j)
            rw [l7 53 (by omega) (by omega), c_in (by omega) (by omega) (by omega), i32_ixn (by omega), w7.rd (j := 53) rfl, n4]
            obtain ⟨s8, j8, q8, R8, w8⟩ := push_T (L := L) (xs := xs) R7 q7 (by show (flP P).length + 1 < _; omega) (G.2.1 g : Int) d
            rw [bV_ok j8]
            have l8 : ∀ j, 51 ≤ j → j ≤ 58 → ln s8 j = ln s4 j := fun j h1 h2 => (w8.1.2.2 j (n5158 h1 h2)).1.trans (l7 j h1 h2)
            have w68 : frT [61] [61] [14] s6 s8 := w7.trans w8
            have T8 := T6.T w68 rfl ⟨rfl, rfl, rfl, rfl⟩ (fun j h1 h2 => n5158 h1 h2)
            have H8 := H6.T w68 rfl ⟨rfl, rfl, rfl, rfl⟩ ⟨rfl, rfl⟩
            have k8 := k6.trans (w68.sub (S' := FAL) (T' := [61]) (F' := [14]) rfl rfl rfl)
            rw [l8 51 (by omega) (by omega), c_in (by omega) (by omega) (by omega), (T8.2.2.2.2.2.2.1 g hgN).1, show (3 : Int32) = i32 3 from rfl, c2_ne (by omega) (by omega) (by omega) (by omega)]
            by_cases h3 : G.1 g = 3
            · rw [c_f (by omega)]
              have hU5 : gU G r0 x1 x2 (gUp r f g) ((G.2.1 g, G.2.1 f) :: P) := hU.step hfg hne (.inr hk) (fun R hR hq hw p hp => by
                  rcases List.mem_cons.mp hp with hp | hp
                  · subst hp
                    rcases hq with hq | hq
                    · exact hR.2.1 _ _ hq.1
                    · omega
                  · exact hw p hp) (fun R hR hw => ⟨fun _ => ⟨hR.2.1 _ _ (hw _ List.mem_cons_self), fun q => absurd (hk.trans h3) q⟩, fun p hp => hw p (List.mem_cons_of_mem _ hp)⟩)
              rcases ih ((G.2.1 g, G.2.1 f) :: P) (gUp r f g) (hlJ hl f g) s8 _ _ _ _ _ T8 H8 hK5 R8 hU5 hA5 (fun p hp => by
                  rcases List.mem_cons.mp hp with hp | hp
                  · subst hp; exact ⟨n5, m5⟩
                  · exact hP' p hp) q8 (by show P.length + 1 + _ ≤ _; omega) (by show _ + (P.length + 1) ≤ _; omega) with ⟨σ', i1, i2, i3, i4⟩ | ⟨σ', r', hl', w2, w3, w4, w5, w6, i1, i2, i3, i4, i5, i6, i7, i8⟩
              · exact .inl ⟨σ', i1, i2, i3, k8.trans i4⟩
              · exact .inr ⟨σ', r', hl', w2, w3, w4, w5, w6, i1, i2, i3, i4, i5, i6, i7, k8.trans i8⟩
            · rw [c_t (by omega), e94_184 (d + 1)]
              obtain ⟨m7, m8⟩ := m6 (by omega)
              obtain ⟨n7, n8⟩ := n6 h3
              rw [l8 54 (by omega) (by omega), c_in (by omega) (by omega) (by omega), i32_ixn (by omega), w68.rd (j := 54) rfl, m7]
              obtain ⟨s9, j9, q9, R9, w9⟩ := push_T (L := L) (xs := xs) R8 q8 (by show (flP P).length + 1 + 1 < _; omega) (G.2.2 f : Int) d
              rw [bV_ok j9]
              have l9 : ∀ j, 51 ≤ j → j ≤ 58 → ln s9 j = ln s4 j := fun j h1 h2 => (w9.1.2.2 j (n5158 h1 h2)).1.trans (l8 j h1 h2)
              rw [l9 54 (by omega) (by omega), c_in (by omega) (by omega) (by omega), i32_ixn (by omega), w9.rd (j := 54) rfl, w68.rd (j := 54) rfl, n7]
              obtain ⟨s10, j10, q10, R10, w10⟩ := push_T (L := L) (xs := xs) R9 q9 (by show (flP P).length + 1 + 1 + 1 < _; omega) (G.2.2 g : Int) d
              rw [bV_ok j10]
              have w810 : frT [61] [61] [14] s8 s10 := w9.trans w10
              have T10 := T8.T w810 rfl ⟨rfl, rfl, rfl, rfl⟩ (fun j h1 h2 => n5158 h1 h2)
              have H10 := H8.T w810 rfl ⟨rfl, rfl, rfl, rfl⟩ ⟨rfl, rfl⟩
              have k10 := k8.trans (w810.sub (S' := FAL) (T' := [61]) (F' := [14]) rfl rfl rfl)
              have hU5 : gU G r0 x1 x2 (gUp r f g) ((G.2.2 g, G.2.2 f) :: (G.2.1 g, G.2.1 f) :: P) := hU.step hfg hne (.inr hk) (fun R hR hq hw p hp => by
                  have hq : gKid G R f g := by
                    rcases hq with hq | hq
                    · exact hq
                    · omega
                  rcases List.mem_cons.mp hp with hp | hp
                  · subst hp
                    exact hR.2.1 _ _ (hq.2 (by omega))
                  · rcases List.mem_cons.mp hp with hp | hp
                    · subst hp
                      exact hR.2.1 _ _ hq.1
                    · exact hw p hp) (fun R hR hw => ⟨fun _ => ⟨hR.2.1 _ _ (hw _ (List.mem_cons_of_mem _ List.mem_cons_self)), fun _ => hR.2.1 _ _ (hw _ List.mem_cons_self)⟩, fun p hp => hw p (List.mem_cons_of_mem _ (List.mem_cons_of_mem _ hp))⟩)
              rcases ih ((G.2.2 g, G.2.2 f) :: (G.2.1 g, G.2.1 f) :: P) (gUp r f g) (hlJ hl f g) s10 _ _ _ _ _ T10 H10 hK5 R10 hU5 hA5 (fun p hp => by
                  rcases List.mem_cons.mp hp with hp | hp
                  · subst hp; exact ⟨n8, m8⟩
                  · rcases List.mem_cons.mp hp with hp | hp
                    · subst hp; exact ⟨n5, m5⟩
                    · exact hP' p hp) q10 (by show P.length + 1 + 1 + _ ≤ _; omega) (by show _ + (P.length + 1 + 1) ≤ _; omega) with ⟨σ', i1, i2, i3, i4⟩ | ⟨σ', r', hl', w2, w3, w4, w5, w6, i1, i2, i3, i4, i5, i6, i7, i8⟩
              · exact .inl ⟨σ', i1, i2, i3, k10.trans i4⟩
              · exact .inr ⟨σ', r', hl', w2, w3, w4, w5, w6, i1, i2, i3, i4, i5, i6, i7, k10.trans i8⟩
        rw [e94_50 (d + 1), c_in (by omega) (by omega) (by omega), i32_ixn (by omega), c1, c1_eq (by omega) (by omega)]
        by_cases z1 : G.1 (r s) = 0
        · rw [c_t (by omega), e94_87 (d + 1), c_in (by omega) (by omega) (by omega), i32_ixn (by omega), c1, c1_ne (by omega) (by omega), c_f (by omega), e94_102 (d + 1), c2_ne (by omega) (by omega) (by omega) (by omega), c_f (by omega)]
          exact step (r s) (r t) _ _ _ _ (.inl ⟨rfl, rfl⟩) (.inl z1)
        · rw [c_f (by omega), c_in (by omega) (by omega) (by omega), i32_ixn (by omega), g1, c1_eq (by omega) (by omega)]
          have goto : (G.1 (r t) = 0 ∨ (G.1 (r t) = G.1 (r s) ∧ 2 ≤ G.1 (r t))) → ∀ u2 u5 u6, rn L xs (d + 2) 94 87 [.ref 50, .int x, u2, .int (i32 (r s)), .int (i32 (r t)), u5, u6] [] s4 = rn L xs (d + 2) 94 116 [.ref 50, .int x, u2, .int (i32 (r s)), .int (i32 (r t)), .int (i32 (r t)), u6] [.int (i32 (r s))] s4 := by
            intro _ u2 u5 u6
            rw [e94_87 (d + 1), c_in (by omega) (by omega) (by omega), i32_ixn (by omega), c1, c1_ne (by omega) (by omega), c_t (by omega), e94_100 (d + 1), e94_102 (d + 1), c2_ne (by omega) (by omega) (by omega) (by omega), c_t (by omega), e94_115 (d + 1)]
          by_cases z2 : G.1 (r t) = 0
          · rw [c_t (by omega), goto (.inl z2)]
            exact step (r t) (r s) _ _ _ _ (.inr ⟨rfl, rfl⟩) (.inl z2)
          · rw [c_f (by omega), c_in (by omega) (by omega) (by omega), c_in (by omega) (by omega) (by omega), c2_eq (by omega) (by omega) (by omega) (by omega)]
            by_cases z3 : G.1 (r s) = G.1 (r t)
            · have z4 : 2 ≤ G.1 (r t) := by
                apply Classical.byContradiction
                intro q
                have y1 := (a8 (r t)).mp (by omega)
                have y2 := (a8 (r s)).mp (by omega)
                omega
              rw [c_t (by omega), goto (.inr ⟨z3.symm, z4⟩)]
              exact step (r t) (r s) _ _ _ _ (.inr ⟨rfl, rfl⟩) (.inr ⟨z3.symm, z4⟩)
            · rw [c_f (by omega)]
              exact .inl ⟨s4, rfl, hU.clash z1 z2 z3, R4, k4⟩
end ALC
