/-! TYPES OF THE MODEL: does an unknown stand in a type? -/
section STD
variable {L : Nat} {xs : Nat → Int32} {σ σ' : tvS}
/-- the row, its end first -/
def rwL (σ : tvS) : List Nat → Prop
  | [] => True
  | x :: r => rd σ 176 r.length = i32 (x : Int) ∧ rwL σ r
theorem rwL.congr : ∀ {W : List Nat}, rwL σ W → (∀ i, i < W.length → rd σ' 176 i = rd σ 176 i) → rwL σ' W := by
  intro W
  induction W with
  | nil => intro _ _; exact trivial
  | cons x r ih =>
    intro h g
    exact ⟨by rw [g r.length (Nat.lt_succ_self _)]; exact h.1, ih h.2 (fun i hi => g i (Nat.lt_succ_of_lt hi))⟩
theorem rwL.fr {S F : List Nat} {W : List Nat} (h : rwL σ W) (g : frM S F σ σ') (hS : inL S 176 = false) : rwL σ' W := h.congr (fun i _ => g.rd (j := 176) hS i)
def mkd (S : Nat) (σ : tvS) (y : Nat) : Prop := rd σ 171 y = i32 (S : Int)
/-- a type comes to the row, if it is met for the first time -/
theorem meets_m {N : Nat} {G : tG} {r : Nat → Nat} {S x : Nat} {W : List Nat} (hT : TM N G r σ) (hM : MT N S σ) (hS : S < 2147483648) (hW : rwL σ W) (hl : W.length < 100000) (hx : x < N) (d : Nat) (v3 : Value) :
    ∃ σ' W', rn L xs (d + 2) 343 0 [.ref 123, .int (i32 x), .int (i32 (W.length : Int)), v3] [] σ = some (.inl (some (.int (i32 (W'.length : Int)))), σ') ∧ TM N G r σ' ∧ MT N S σ' ∧ rwL σ' W' ∧ frM [169, 171, 176] [] σ σ' ∧
      ((W' = W ∧ mkd S σ (r x) ∧ (∀ y, rd σ' 171 y = rd σ 171 y)) ∨ (W' = r x :: W ∧ ¬ mkd S σ (r x) ∧ mkd S σ' (r x) ∧ ∀ y, y ≠ r x → rd σ' 171 y = rd σ 171 y)) ∧ (∀ y, rd σ' 172 y = rd σ 172 y) := by
  have hN := hT.2.2.1
  obtain ⟨s1, f1, T1, w1⟩ := find_M (L := L) (xs := xs) hT hx d jv jv jv
  have hr := hT.rlt hx
  rw [e343_0 (d + 1), bI_ok f1, c_in (by omega) (by omega) (by omega), i32_ixn (by omega), w1.2 72 rfl, hM.1, w1.rd (j := 171) rfl]
  by_cases q : rd σ 171 (r x) = i32 (S : Int)
  · rw [show pv_c2 .ne (rd σ 171 (r x)) (i32 (S : Int)) = false from decide_eq_false (fun k => k q), cond_false]
    exact ⟨s1, W, rfl, T1, hM.fr w1 rfl ⟨rfl, rfl⟩, hW.fr w1 rfl, w1.sub rfl rfl, .inl ⟨rfl, q, fun y => w1.rd (j := 171) rfl y⟩, fun y => w1.rd (j := 172) rfl y⟩
  · rw [show pv_c2 .ne (rd σ 171 (r x)) (i32 (S : Int)) = true from decide_eq_true q, cond_true, e343_21, c_in (by omega) (by omega) (by omega), c_in (by omega) (by omega) (by omega), i32_ixn (by omega), i32_ixn (by omega), w1.2 72 rfl, hM.1]
    have w2 : frM [169, 171, 176] [] σ (wr (wr s1 171 (r x) (i32 (S : Int))) 176 W.length (i32 (r x : Int))) := (w1.sub rfl rfl).trans ((frM_wr rfl (by decide)).trans (frM_wr rfl (by decide)))
    have T2 := T1.fr ((frM_wr (S := [171, 176]) (F := []) (k := 171) (i := r x) (x := i32 (S : Int)) rfl (by decide)).trans (frM_wr (k := 176) (i := W.length) (x := i32 (r x : Int)) rfl (by decide))) rfl ⟨rfl, rfl, rfl, rfl⟩
    have r171 : ∀ y, rd (wr (wr s1 171 (r x) (i32 (S : Int))) 176 W.length (i32 (r x : Int))) 171 y = if y = r x then i32 (S : Int) else rd σ 171 y := fun y => by
      rw [wr_nek (by decide), rd_wr]
      by_cases e : y = r x
      · rw [if_pos ⟨rfl, e⟩, if_pos e]
      · rw [if_neg (fun k => e k.2), if_neg e, w1.rd (j := 171) rfl]
    refine ⟨_, r x :: W, ?_, T2, ⟨by rw [w2.2 72 rfl]; exact hM.1, fun y hy => ⟨?_, by rw [w2.rd (j := 172) rfl]; exact (hM.2 y hy).2⟩⟩, ⟨wr_self _ _ _ _, hW.congr (fun i hi => by rw [wr_nei (by omega), wr_nek (by decide), w1.rd (j := 176) rfl])⟩, w2, .inr ⟨rfl, q, by unfold mkd; rw [r171, if_pos rfl], fun y hy => by rw [r171, if_neg hy]⟩, fun y => w2.rd (j := 172) rfl y⟩
    · rw [show (1 : Int32) = i32 1 from rfl, i32_add]; rfl
    · rw [r171 y]
      by_cases e : y = r x
      · rw [if_pos e]; exact ⟨S, Nat.le_refl _, rfl⟩
      · rw [if_neg e]; exact (hM.2 y hy).1
/-- what is marked and in the row, each once -/
theorem rw_len {N S : Nat} {W : List Nat} (hW : W.Nodup) (hl : ∀ y, y ∈ W → y < N) : W.length ≤ N := by
  have := nodup_len W (List.range N) hW (fun x hx => List.mem_range.mpr (hl x hx))
  rw [List.length_range] at this
  exact this
/-- the row holds marked ones, each once -/
def rwI (N : Nat) (G : tG) (r : Nat → Nat) (S : Nat) (W : List Nat) (σ : tvS) : Prop := TM N G r σ ∧ MT N S σ ∧ rwL σ W ∧ W.Nodup ∧ (∀ y, y ∈ W → y < N ∧ r y = y ∧ mkd S σ y)
theorem meets_I {N : Nat} {G : tG} {r : Nat → Nat} {S x : Nat} {W : List Nat} (h : rwI N G r S W σ) (hS : S < 2147483648) (hl : W.length < 100000) (hx : x < N) (d : Nat) (v3 : Value) :
    ∃ σ' W', rn L xs (d + 2) 343 0 [.ref 123, .int (i32 x), .int (i32 (W.length : Int)), v3] [] σ = some (.inl (some (.int (i32 (W'.length : Int)))), σ') ∧ rwI N G r S W' σ' ∧ frM [169, 171, 176] [] σ σ' ∧ (W' = W ∨ (W' = r x :: W ∧ ¬ mkd S σ (r x))) ∧ (∀ y, mkd S σ' y ↔ mkd S σ y ∨ y = r x) ∧ (∀ y, rd σ' 172 y = rd σ 172 y) := by
  obtain ⟨hT, hM, hW, hd, hm⟩ := h
  obtain ⟨σ', W', a1, a2, a3, a4, a5, a6, a7⟩ := meets_m (L := L) (xs := xs) hT hM hS hW hl hx d v3
  have hr := hT.rlt hx
  rcases a6 with ⟨e, m1, m2⟩ | ⟨e, m1, m2, m3⟩
  · have mk : ∀ y, mkd S σ' y ↔ mkd S σ y := fun y => by unfold mkd; rw [m2]
    refine ⟨σ', W', a1, ⟨a2, a3, a4, by rw [e]; exact hd, fun y hy => by rw [e] at hy; rw [mk]; exact hm y hy⟩, a5, .inl e, fun y => ?_, a7⟩
    rw [mk]; exact ⟨.inl, fun q => q.elim id (fun q => q ▸ m1)⟩
  · have mk : ∀ y, mkd S σ' y ↔ mkd S σ y ∨ y = r x := fun y => by
      by_cases q : y = r x
      · rw [q]; exact ⟨fun _ => .inr rfl, fun _ => m2⟩
      · unfold mkd; rw [m3 y q]; exact ⟨.inl, fun k => k.elim id (fun k => absurd k q)⟩
    refine ⟨σ', W', a1, ⟨a2, a3, a4, by rw [e]; exact List.nodup_cons.mpr ⟨fun k => m1 (hm _ k).2.2, hd⟩, fun y hy => ?_⟩, a5, .inr ⟨e, m1⟩, mk, a7⟩
    rw [e] at hy
    rcases List.mem_cons.mp hy with q | q
    · rw [q]; exact ⟨hr, hT.rr hx, m2⟩
    · obtain ⟨h1, h2, h3⟩ := hm y q
      exact ⟨h1, h2, (mk y).mpr (.inl h3)⟩
def unm (N S : Nat) (σ : tvS) : Nat := ct (fun y => ¬ rd σ 171 y = i32 (S : Int)) N
/-- the kids of one come to the row -/
theorem unm_meets {N : Nat} {r : Nat → Nat} {S x : Nat} {W W' : List Nat} (hr : r x < N) (h : W' = W ∨ (W' = r x :: W ∧ ¬ mkd S σ (r x))) (hm : ∀ y, mkd S σ' y ↔ mkd S σ y ∨ y = r x) : unm N S σ' + W'.length ≤ unm N S σ + W.length ∧ unm N S σ' ≤ unm N S σ := by
  by_cases q : mkd S σ (r x)
  · have e : unm N S σ' = unm N S σ := by
      refine ct_congr N (fun y _ => not_congr ?_)
      have := hm y
      unfold mkd at this q
      rw [this]; exact ⟨fun k => k.elim id (fun k => k ▸ q), .inl⟩
    rcases h with h | h
    · rw [e, h]; exact ⟨Nat.le_refl _, Nat.le_refl _⟩
    · exact absurd q h.2
  · have e : unm N S σ' + 1 = unm N S σ := by
      refine ct_flip (p := fun y => ¬ rd σ 171 y = i32 (S : Int)) (q := fun y => ¬ rd σ' 171 y = i32 (S : Int)) (a := r x) q (fun k => k ((hm (r x)).mpr (.inr rfl))) N hr (fun y _ hy => not_congr ?_)
      have := hm y
      unfold mkd at this
      rw [this]; exact ⟨.inl, fun k => k.elim id (fun k => absurd k hy)⟩
    rcases h with h | h
    · rw [h]; exact ⟨by omega, by omega⟩
    · rw [h.1]; exact ⟨by show _ + (W.length + 1) ≤ _; omega, by omega⟩
theorem std_loop {N : Nat} {G : tG} {r : Nat → Nat} {S u b : Nat} (hr2 : ∀ x, r (r x) = r x) (hS : S < 2147483648) (hu : u < N) (hN1 : N < 100000) (d : Nat) : ∀ (n : Nat) (W : List Nat) (σ : tvS) (v2 v4 : Value), rwI N G r S W σ → (∀ dd, dOK G r dd → ∀ y, y ∈ W → y = r b ∨ dd y < dd b) → 2 * unm N S σ + W.length ≤ n →
    ∃ σ' x, rn L xs (d + 3) 342 17 [.ref 123, .int (i32 u), v2, .int (i32 (W.length : Int)), v4] [] σ = some (.inl (some (.int x)), σ') ∧ TM N G r σ' ∧ MT N S σ' ∧ frM [169, 171, 176] [] σ σ' ∧ (∀ y, rd σ' 172 y = rd σ 172 y) ∧ (x = 0 ∨ (x = 1 ∧ ∀ dd, dOK G r dd → u = r b ∨ dd u < dd b)) := by
  intro n
  induction n with
  | zero =>
    intro W σ v2 v4 hI hd hn
    have : W = [] := List.eq_nil_of_length_eq_zero (by omega)
    subst this
    rw [e342_17, c1_le (by show -2147483648 ≤ ((0 : Nat) : Int); omega) (by show ((0 : Nat) : Int) < _; omega), c_t (by show ((0 : Nat) : Int) ≤ 0; omega), e342_95]
    exact ⟨σ, 0, rfl, hI.1, hI.2.1, frM.refl, fun _ => rfl, .inl rfl⟩
  | succ n ih =>
    intro W σ v2 v4 hI hd hn
    cases W with
    | nil =>
      rw [e342_17, c1_le (by show -2147483648 ≤ ((0 : Nat) : Int); omega) (by show ((0 : Nat) : Int) < _; omega), c_t (by show ((0 : Nat) : Int) ≤ 0; omega), e342_95]
      exact ⟨σ, 0, rfl, hI.1, hI.2.1, frM.refl, fun _ => rfl, .inl rfl⟩
    | cons t W =>
      obtain ⟨hT, hM, hW, hnd, hm⟩ := id hI
      have hN := hT.2.2.1
      have hlen := rw_len (N := N) (S := S) hnd (fun y hy => (hm y hy).1)
      have hlen : W.length + 1 ≤ N := hlen
      obtain ⟨ht, hrt, hmt⟩ := hm t List.mem_cons_self
      have e1 : i32 ((t :: W).length : Int) + Int32.ofInt (-1) = i32 (W.length : Int) := by
        rw [i32_raw, i32_add]; congr 1; show ((W.length + 1 : Nat) : Int) + -1 = _; omega
      rw [e342_17, c1_le (by omega) (by show ((W.length + 1 : Nat) : Int) < _; omega), c_f (by show ¬ ((W.length + 1 : Nat) : Int) ≤ 0; omega), e1, c_in (by omega) (by omega) (by omega), i32_ixn (by omega), hW.1, c2_ne (by omega) (by omega) (by omega) (by omega)]
      by_cases q : t = u
      · rw [c_f (by omega)]
        exact ⟨σ, 1, rfl, hT, hM, frM.refl, fun _ => rfl, .inr ⟨rfl, fun dd hdd => q ▸ hd dd hdd t List.mem_cons_self⟩⟩
      · rw [c_t (by omega), e342_40, c_in (by omega) (by omega) (by omega), i32_ixn (by omega)]
        obtain ⟨k1, k2, k3⟩ := hT.2.2.2.2.2.1 t ht
        rw [k1, show (2 : Int32) = i32 2 from rfl, c2_lt (by omega) (by omega) (by omega) (by omega)]
        have hI1 : rwI N G r S W σ := ⟨hT, hM, hW.2, (List.nodup_cons.mp hnd).2, fun y hy => hm y (List.mem_cons_of_mem _ hy)⟩
        have hd1 : ∀ dd, dOK G r dd → ∀ y, y ∈ W → y = r b ∨ dd y < dd b := fun dd hdd y hy => hd dd hdd y (List.mem_cons_of_mem _ hy)
        have hn1 : 2 * unm N S σ + (W.length + 1) ≤ n + 1 := hn
        by_cases h2 : G.1 t < 2
        · rw [c_t (by omega), e342_92]
          exact ih W σ _ _ hI1 hd1 (by omega)
        · rw [c_f (by omega), c_in (by omega) (by omega) (by omega)]
          obtain ⟨k4, k5, k6⟩ := k3 (by omega)
          have dk : ∀ dd, dOK G r dd → ∀ y, y ∈ kids G t → r y = r b ∨ dd (r y) < dd b := fun dd hdd y hy => by
            have a := hdd.kid (by omega) hy
            have b2 : dd (r y) = dd y := hdd.1 _ _ (hr2 y)
            rcases hd dd hdd t List.mem_cons_self with e | e
            · have : dd (r b) = dd b := hdd.1 _ _ (hr2 b)
              rw [← e] at this; exact .inr (by omega)
            · exact .inr (by omega)
          rw [k4]
          obtain ⟨s1, W1, a1, a2, a3, a4, a5, a6⟩ := meets_I (L := L) (xs := xs) hI1 hS (by omega) k5 d jv
          have u1 := unm_meets (N := N) (hT.rlt k5) a4 a5
          have hd2 : ∀ dd, dOK G r dd → ∀ y, y ∈ W1 → y = r b ∨ dd y < dd b := fun dd hdd y hy => by
            rcases a4 with e | e
            · rw [e] at hy; exact hd1 dd hdd y hy
            · rw [e.1] at hy
              rcases List.mem_cons.mp hy with e2 | e2
              · rw [e2]; exact dk dd hdd _ kid_a
              · exact hd1 dd hdd y e2
          rw [bI_ok a1, c_in (by omega) (by omega) (by omega), (a2.1.2.2.2.2.2.1 t ht).1, show (3 : Int32) = i32 3 from rfl, c2_eq (by omega) (by omega) (by omega) (by omega)]
          have w1len : W1.length ≤ W.length + 1 := by
            rcases a4 with e | e
            · rw [e]; omega
            · rw [e.1]; exact Nat.le_refl _
          by_cases h3 : G.1 t = 3
          · rw [c_t (by omega), e342_90, e342_91, e342_92]
            obtain ⟨σ', x, i1, i2, i3, i4, i5, i6⟩ := ih W1 s1 _ _ a2 hd2 (by omega)
            exact ⟨σ', x, i1, i2, i3, a3.trans i4, fun y => (i5 y).trans (a6 y), i6⟩
          · obtain ⟨k7, k8⟩ := k6 h3
            rw [c_f (by omega), c_in (by omega) (by omega) (by omega), a3.rd (j := 168) rfl, k7]
            have hl1 := rw_len (N := N) (S := S) a2.2.2.2.1 (fun y hy => (a2.2.2.2.2 y hy).1)
            obtain ⟨s2, W2, b1, b2, b3, b4, b5, b6⟩ := meets_I (L := L) (xs := xs) a2 hS (by omega) k8 d jv
            have u2 := unm_meets (N := N) (hT.rlt k8) b4 b5
            have hd3 : ∀ dd, dOK G r dd → ∀ y, y ∈ W2 → y = r b ∨ dd y < dd b := fun dd hdd y hy => by
              rcases b4 with e | e
              · rw [e] at hy; exact hd2 dd hdd y hy
              · rw [e.1] at hy
                rcases List.mem_cons.mp hy with e2 | e2
                · rw [e2]; exact dk dd hdd _ (kid_b h3)
                · exact hd2 dd hdd y e2
            rw [bI_ok b1, e342_91, e342_92]
            obtain ⟨σ', x, i1, i2, i3, i4, i5, i6⟩ := ih W2 s2 _ _ b2 hd3 (by omega)
            exact ⟨σ', x, i1, i2, i3, a3.trans (b3.trans i4), fun y => (i5 y).trans ((b6 y).trans (a6 y)), i6⟩
theorem stands_m {N : Nat} {G : tG} {r : Nat → Nat} {S u b : Nat} (hr2 : ∀ x, r (r x) = r x) (hT : TM N G r σ) (hN : N < 100000) (hM : MT N S σ) (hS : S + 1 < 2147483648) (hu : u < N) (hb : b < N) (d : Nat) (v3 v4 : Value) :
    ∃ σ' x, rn L xs (d + 3) 342 0 [.ref 123, .int (i32 u), .int (i32 b), v3, v4] [] σ = some (.inl (some (.int x)), σ') ∧ TM N G r σ' ∧ MT N (S + 1) σ' ∧ frM [169, 171, 176] [72] σ σ' ∧ (∀ y, rd σ' 172 y = rd σ 172 y) ∧ (x = 0 ∨ (x = 1 ∧ ∀ dd, dOK G r dd → u = r b ∨ dd u < dd b)) := by
  have e1 : rd σ 123 72 + 1 = i32 ((S + 1 : Nat) : Int) := by rw [hM.1, show (1 : Int32) = i32 1 from rfl, i32_add]; rfl
  have w1 : frM [] [72] σ (wr σ 123 72 (i32 ((S + 1 : Nat) : Int))) := frM_w rfl
  have T1 := hT.fr w1 rfl ⟨rfl, rfl, rfl, rfl⟩
  have M1 : MT N (S + 1) (wr σ 123 72 (i32 ((S + 1 : Nat) : Int))) := ⟨wr_self _ _ _ _, fun y hy => by
    rw [w1.rd (j := 171) rfl, w1.rd (j := 172) rfl]
    obtain ⟨⟨s, a, b⟩, ⟨s', a', b'⟩⟩ := hM.2 y hy
    exact ⟨⟨s, by omega, b⟩, ⟨s', by omega, b'⟩⟩⟩
  rw [e342_0 (d + 2), e1]
  obtain ⟨s2, W, a1, a2, a3, a4, a5, a6⟩ := meets_I (L := L) (xs := xs) (W := []) ⟨T1, M1, trivial, List.nodup_nil, fun y hy => (by cases hy)⟩ hS (by show 0 < _; omega) hb d jv
  have a1' : rn L xs (d + 2) 343 0 [.ref 123, .int (i32 b), .int 0, jv] [] (wr σ 123 72 (i32 ((S + 1 : Nat) : Int))) = some (.inl (some (.int (i32 (W.length : Int)))), s2) := a1
  rw [bI_ok a1']
  obtain ⟨σ', x, i1, i2, i3, i4, i5, i6⟩ := std_loop (L := L) (xs := xs) (b := b) hr2 hS hu hN d _ W s2 (.int (i32 b)) (dj v4) a2 (fun dd hdd y hy => by
    rcases a4 with e | e
    · rw [e] at hy; cases hy
    · rw [e.1] at hy; exact .inl (List.mem_singleton.mp hy)) (Nat.le_refl _)
  exact ⟨σ', x, i1, i2, i3, (w1.sub rfl rfl).trans ((a3.sub rfl rfl).trans (i4.sub rfl rfl)), fun y => (i5 y).trans ((a6 y).trans (w1.rd (j := 172) rfl y)), i6⟩
end STD
