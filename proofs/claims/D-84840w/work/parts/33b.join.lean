/-! TYPES OF THE MODEL: what arrows hold -/
section HLM
variable {L : Nat} {xs : Nat → Int32} {σ σ' : tvS}
theorem mark_loop {N : Nat} {G : tG} {r hv : Nat → Nat} {H S : Nat} (hH : H ≤ 250000) (d : Nat) : ∀ (l : List Nat) (σ : tvS) (x2 : Int32) (v1 : Value), TM N G r σ → (∀ i, i ∈ l → i < H ∧ rd σ 174 i = i32 (hv i : Int) ∧ hv i < N) → chW σ l x2 → rd σ 123 84 = i32 (S : Int) →
    ∃ σ', rn L xs (d + 2) 345 17 [.ref 123, v1, .int x2] [] σ = some (.inl none, σ') ∧ TM N G r σ' ∧ frM [169, 183] [] σ σ' ∧ (∀ y, (∃ i, i ∈ l ∧ r (hv i) = y) → rd σ' 183 y = i32 (S : Int)) ∧ (∀ y, (¬ ∃ i, i ∈ l ∧ r (hv i) = y) → rd σ' 183 y = rd σ 183 y) := by
  intro l
  induction l with
  | nil =>
    intro σ x2 v1 hT _ hc _
    rw [e345_17, show x2 = i32 (-1) from hc, i32_raw, c2_refl, e345_51]
    exact ⟨σ, rfl, hT, frM.refl, fun y ⟨i, hi, _⟩ => (by cases hi), fun _ _ => rfl⟩
  | cons i l ih =>
    intro σ x2 v1 hT hl hc hS
    obtain ⟨h1, h2, h3⟩ := hl i List.mem_cons_self
    have hN := hT.2.2.1
    obtain ⟨c1, c2⟩ := hc
    rw [e345_17, c1, i32_raw, c2_eq (by omega) (by omega) (by omega) (by omega), c_f (by omega), c_in (by omega) (by omega) (by omega), i32_ixn (by omega), h2]
    obtain ⟨s1, f1, T1, w1⟩ := find_M (L := L) (xs := xs) hT h3 d jv jv jv
    have hr := hT.rlt h3
    rw [bI_ok f1, c_in (by omega) (by omega) (by omega), c_in (by omega) (by omega) (by omega), i32_ixn (by omega), w1.2 84 rfl, hS, w1.rd (j := 175) rfl]
    have w2 : frM [169, 183] [] σ (wr s1 183 (r (hv i)) (i32 (S : Int))) := (w1.sub rfl rfl).trans (frM_wr rfl (by decide))
    have T2 := T1.fr (frM_wr (S := [183]) (F := []) (k := 183) (i := r (hv i)) (x := i32 (S : Int)) rfl (by decide)) rfl ⟨rfl, rfl, rfl, rfl⟩
    obtain ⟨σ', i1, i2, i3, i4, i5⟩ := ih (wr s1 183 (r (hv i)) (i32 (S : Int))) _ (jk (dj v1)) T2 (fun j hj => by
      rw [w2.rd (j := 174) rfl]; exact hl j (List.mem_cons_of_mem _ hj)) (c2.congr (fun j _ => w2.rd (j := 175) rfl j)) (by rw [w2.2 84 rfl]; exact hS)
    refine ⟨σ', i1, i2, w2.trans i3, fun y hy => ?_, fun y hy => ?_⟩
    · by_cases q : ∃ j, j ∈ l ∧ r (hv j) = y
      · exact i4 y q
      · rw [i5 y q]
        obtain ⟨j, hj, e⟩ := hy
        rcases List.mem_cons.mp hj with hj | hj
        · rw [hj] at e; rw [← e, wr_self]
        · exact absurd ⟨j, hj, e⟩ q
    · rw [i5 y (fun ⟨j, hj, e⟩ => hy ⟨j, List.mem_cons_of_mem _ hj, e⟩), wr_nei (fun q => hy ⟨i, List.mem_cons_self, q.symm⟩), w1.rd (j := 183) rfl]
/-- all that an arrow holds is marked, and nothing else -/
theorem markHeld_m {N : Nat} {G : tG} {r hv : Nat → Nat} {H S g : Nat} {l : List Nat} (hH : H ≤ 250000) (hT : TM N G r σ) (hl : ∀ i, i ∈ l → i < H ∧ rd σ 174 i = i32 (hv i : Int) ∧ hv i < N) (hc : chW σ l (rd σ 170 g)) (hg : g < N) (hS : MH N S σ) (hS2 : S + 1 < 2147483648) (d : Nat) (v2 : Value) :
    ∃ σ', rn L xs (d + 2) 345 0 [.ref 123, .int (i32 g), v2] [] σ = some (.inl none, σ') ∧ TM N G r σ' ∧ frM [169, 183] [84] σ σ' ∧ MH N (S + 1) σ' ∧ (∀ y, y < N → (rd σ' 183 y = i32 ((S + 1 : Nat) : Int) ↔ ∃ i, i ∈ l ∧ r (hv i) = y)) := by
  have hN := hT.2.2.1
  have e1 : rd σ 123 84 + 1 = i32 ((S + 1 : Nat) : Int) := by rw [hS.1, show (1 : Int32) = i32 1 from rfl, i32_add]; rfl
  have w1 : frM [] [84] σ (wr σ 123 84 (i32 ((S + 1 : Nat) : Int))) := frM_w rfl
  rw [e345_0 (d + 1), c_in (by omega) (by omega) (by omega), i32_ixn (by omega), e1]
  obtain ⟨σ', i1, i2, i3, i4, i5⟩ := mark_loop (L := L) (xs := xs) (S := S + 1) hH d l (wr σ 123 84 (i32 ((S + 1 : Nat) : Int))) (rd σ 170 g) (.int (i32 g)) (hT.fr w1 rfl ⟨rfl, rfl, rfl, rfl⟩) (fun i hi => by rw [w1.rd (j := 174) rfl]; exact hl i hi) (hc.congr (fun j _ => w1.rd (j := 175) rfl j)) (wr_self _ _ _ _)
  have old : ∀ y, rd (wr σ 123 84 (i32 ((S + 1 : Nat) : Int))) 183 y = rd σ 183 y := fun y => w1.rd (j := 183) rfl y
  refine ⟨σ', i1, i2, (w1.sub rfl rfl).trans (i3.sub rfl rfl), ⟨by rw [i3.2 84 rfl, wr_self], fun y hy => ?_⟩, fun y hy => ⟨fun q => ?_, i4 y⟩⟩
  · by_cases q : ∃ i, i ∈ l ∧ r (hv i) = y
    · exact ⟨S + 1, Nat.le_refl _, i4 y q⟩
    · obtain ⟨s, a, b⟩ := hS.2 y hy
      exact ⟨s, by omega, by rw [i5 y q, old]; exact b⟩
  · apply Classical.byContradiction
    intro h
    rw [i5 y h, old] at q
    obtain ⟨s, a, b⟩ := hS.2 y hy
    rw [b] at q
    have := (i32_inj (by omega) (by omega) (by omega) (by omega)).mp q
    omega
theorem join_loop {N : Nat} {G : tG} {r hv : Nat → Nat} {H S g : Nat} {l0 : List Nat} (hH : H ≤ 250000) (hg : g < N) (hS : S < 2147483648) (d : Nat) : ∀ (l m : List Nat) (σ : tvS) (x3 : Int32) (v1 v4 v5 : Value), TM N G r σ → (∀ i, i ∈ l → i < H ∧ rd σ 174 i = i32 (hv i : Int) ∧ hv i < N) → chW σ l x3 → l.Nodup → (∀ i, i ∈ l → i ∉ m ++ l0) →
    chW σ (m ++ l0) (rd σ 170 g) → MH N S σ → (∀ y, y < N → (rd σ 183 y = i32 (S : Int) ↔ ∃ i, i ∈ m ++ l0 ∧ r (hv i) = y)) →
    ∃ σ' m', rn L xs (d + 2) 344 23 [.ref 123, v1, .int (i32 g), .int x3, v4, v5] [] σ = some (.inl none, σ') ∧ TM N G r σ' ∧ frM [169, 170, 175, 183] [] σ σ' ∧ MH N S σ' ∧ chW σ' (m' ++ (m ++ l0)) (rd σ' 170 g) ∧ (∀ i, i ∈ m' → i ∈ l) ∧ m'.Nodup ∧ (∀ i, i ∈ l → ∃ j, j ∈ m' ++ (m ++ l0) ∧ r (hv j) = r (hv i)) ∧
      (∀ t, t ≠ g → rd σ' 170 t = rd σ 170 t) ∧ (∀ i, i ∉ l → rd σ' 175 i = rd σ 175 i) := by
  intro l
  induction l with
  | nil =>
    intro m σ x3 v1 v4 v5 hT _ hc _ _ hm hM _
    rw [e344_23, show x3 = i32 (-1) from hc, i32_raw, c2_refl, e344_98]
    exact ⟨σ, [], rfl, hT, frM.refl, hM, hm, fun i hi => (by cases hi), List.nodup_nil, fun i hi => (by cases hi), fun _ _ => rfl, fun _ _ => rfl⟩
  | cons i l ih =>
    intro m σ x3 v1 v4 v5 hT hl hc hd hx hm hM hq
    obtain ⟨h1, h2, h3⟩ := hl i List.mem_cons_self
    have hN := hT.2.2.1
    obtain ⟨c1, c2⟩ := hc
    rw [List.nodup_cons] at hd
    have hr := hT.rlt h3
    obtain ⟨s1, f1, T1, w1⟩ := find_M (L := L) (xs := xs) hT h3 d jv jv jv
    have hl' : ∀ j, j ∈ l → j < H ∧ rd s1 174 j = i32 (hv j : Int) ∧ hv j < N := fun j hj => by rw [w1.rd (j := 174) rfl]; exact hl j (List.mem_cons_of_mem _ hj)
    rw [e344_23, c1, i32_raw, c2_eq (by omega) (by omega) (by omega) (by omega), c_f (by omega), c_in (by omega) (by omega) (by omega), c_in (by omega) (by omega) (by omega), i32_ixn (by omega), h2, bI_ok f1, c_in (by omega) (by omega) (by omega), i32_ixn (by omega), w1.2 84 rfl, hM.1, w1.rd (j := 183) rfl]
    by_cases q : rd σ 183 (r (hv i)) = i32 (S : Int)
    · rw [q, c2_refl, e344_92]
      obtain ⟨σ', m', i1, i2, i3, i4, i5, i6, i7, i8, i9, i10⟩ := ih m s1 (rd σ 175 i) _ _ _ T1 hl' (c2.congr (fun j _ => w1.rd (j := 175) rfl j)) hd.2 (fun j hj => hx j (List.mem_cons_of_mem _ hj)) (by rw [w1.rd (j := 170) rfl]; exact hm.congr (fun j _ => w1.rd (j := 175) rfl j)) (hM.fr w1 rfl rfl) (fun y hy => by rw [w1.rd (j := 183) rfl]; exact hq y hy)
      refine ⟨σ', m', i1, i2, (w1.sub rfl rfl).trans i3, i4, i5, fun j hj => List.mem_cons_of_mem _ (i6 j hj), i7, fun j hj => ?_, fun t ht => by rw [i9 t ht, w1.rd (j := 170) rfl], fun j hj => by rw [i10 j (fun k => hj (List.mem_cons_of_mem _ k)), w1.rd (j := 175) rfl]⟩
      rcases List.mem_cons.mp hj with hj | hj
      · obtain ⟨k, hk, e⟩ := (hq _ hr).mp q
        rw [hj]; exact ⟨k, List.mem_append_right _ hk, e⟩
      · exact i8 j hj
    · rw [show pv_c2 .eq (rd σ 183 (r (hv i))) (i32 (S : Int)) = false from decide_eq_false q, cond_false, c_in (by omega) (by omega) (by omega), c_in (by omega) (by omega) (by omega), c_in (by omega) (by omega) (by omega), c_in (by omega) (by omega) (by omega), i32_ixn (by omega), e344_92, w1.rd (j := 170) rfl]
      have w2 : frM [169, 170, 175, 183] [] σ (wr (wr (wr s1 183 (r (hv i)) (i32 (S : Int))) 175 i (rd σ 170 g)) 170 g (i32 (i : Int))) := (w1.sub rfl rfl).trans ((frM_wr rfl (by decide)).trans ((frM_wr rfl (by decide)).trans (frM_wr rfl (by decide))))
      have T2 := T1.fr ((frM_wr (S := [170, 175, 183]) (F := []) (k := 183) (i := r (hv i)) (x := i32 (S : Int)) rfl (by decide)).trans ((frM_wr (k := 175) (i := i) (x := rd σ 170 g) rfl (by decide)).trans (frM_wr (k := 170) (i := g) (x := i32 (i : Int)) rfl (by decide)))) rfl ⟨rfl, rfl, rfl, rfl⟩
      have him : i ∉ m ++ l0 := hx i List.mem_cons_self
      have r175 : ∀ j, j ≠ i → rd (wr (wr (wr s1 183 (r (hv i)) (i32 (S : Int))) 175 i (rd σ 170 g)) 170 g (i32 (i : Int))) 175 j = rd σ 175 j := fun j hj => by rw [wr_nek (by decide), wr_nei hj, wr_nek (by decide), w1.rd (j := 175) rfl]
      have r183 : ∀ y, rd (wr (wr (wr s1 183 (r (hv i)) (i32 (S : Int))) 175 i (rd σ 170 g)) 170 g (i32 (i : Int))) 183 y = if y = r (hv i) then i32 (S : Int) else rd σ 183 y := fun y => by
        rw [wr_nek (by decide), wr_nek (by decide), rd_wr]
        by_cases e : y = r (hv i)
        · rw [if_pos ⟨rfl, e⟩, if_pos e]
        · rw [if_neg (fun k => e k.2), if_neg e, w1.rd (j := 183) rfl]
      obtain ⟨σ', m', i1, i2, i3, i4, i5, i6, i7, i8, i9, i10⟩ := ih (i :: m) _ (rd σ 175 i) (dj v1) (.int (rd σ 175 i)) (.int (i32 (r (hv i) : Int))) T2 (fun j hj => by rw [w2.rd (j := 174) rfl]; exact hl j (List.mem_cons_of_mem _ hj)) (c2.congr (fun j hj => r175 j (fun e => hd.1 (e ▸ hj)))) hd.2 (fun j hj hm' => by
          rcases List.mem_cons.mp hm' with e | e
          · exact hd.1 (e ▸ hj)
          · exact hx j (List.mem_cons_of_mem _ hj) e) (by
          rw [wr_self]
          refine ⟨rfl, ?_⟩
          rw [wr_nek (by decide), wr_self]
          exact hm.congr (fun j hj => r175 j (fun e => him (e ▸ hj)))) ⟨by rw [w2.2 84 rfl]; exact hM.1, fun y hy => by
            rw [r183 y]
            by_cases e : y = r (hv i)
            · rw [if_pos e]; exact ⟨S, Nat.le_refl _, rfl⟩
            · rw [if_neg e]; exact hM.2 y hy⟩ (fun y hy => by
            rw [r183 y]
            by_cases e : y = r (hv i)
            · rw [if_pos e]; exact ⟨fun _ => ⟨i, List.mem_cons_self, e.symm⟩, fun _ => rfl⟩
            · rw [if_neg e, hq y hy]
              constructor
              · rintro ⟨j, hj, e2⟩; exact ⟨j, List.mem_cons_of_mem _ hj, e2⟩
              · rintro ⟨j, hj, e2⟩
                rcases List.mem_cons.mp hj with e3 | e3
                · rw [e3] at e2; exact absurd e2.symm e
                · exact ⟨j, e3, e2⟩)
      have assoc : m' ++ (i :: m ++ l0) = (m' ++ [i]) ++ (m ++ l0) := by rw [List.append_assoc]; rfl
      refine ⟨σ', m' ++ [i], i1, i2, w2.trans i3, i4, by rw [← assoc]; exact i5, fun j hj => ?_, ?_, fun j hj => ?_, fun t ht => by rw [i9 t ht, wr_nei ht, wr_nek (by decide), wr_nek (by decide), w1.rd (j := 170) rfl], fun j hj => by rw [i10 j (fun k => hj (List.mem_cons_of_mem _ k)), r175 j (fun e => hj (e ▸ List.mem_cons_self))]⟩
      · rcases List.mem_append.mp hj with hj | hj
        · exact List.mem_cons_of_mem _ (i6 j hj)
        · rw [List.mem_singleton.mp hj]; exact List.mem_cons_self
      · exact List.nodup_append.mpr ⟨i7, List.nodup_cons.mpr ⟨fun k => (by cases k), List.nodup_nil⟩, fun a ha b hb e => hd.1 (by rw [← List.mem_singleton.mp hb, ← e]; exact i6 a ha)⟩
      · rcases List.mem_cons.mp hj with hj | hj
        · rw [hj]; exact ⟨i, List.mem_append_left _ (List.mem_append_right _ (List.mem_singleton.mpr rfl)), rfl⟩
        · rw [← assoc]; exact i8 j hj
def hlM (hl : Nat → List Nat) (g : Nat) (m : List Nat) : Nat → List Nat := fun t => if t = g then m ++ hl g else hl t
/-- what one holds goes over to another, that it has become, unless that holds it already -/
theorem join_m {N : Nat} {G : tG} {r : Nat → Nat} {hl : Nat → List Nat} {hv : Nat → Nat} {H S f g : Nat} (hT : TM N G (gUp r f g) σ) (h : HM N r hl hv H σ) (hf : r f = f) (hg : r g = g) (hn : f ≠ g) (hfN : f < N) (hgN : g < N) (hS : MH N S σ) (hS2 : S + 1 < 2147483648) (d : Nat) (v3 v4 v5 : Value) :
    ∃ σ' m S', rn L xs (d + 3) 344 0 [.ref 123, .int (i32 f), .int (i32 g), v3, v4, v5] [] σ = some (.inl none, σ') ∧ TM N G (gUp r f g) σ' ∧ HM N (gUp r f g) (hlM hl g m) hv H σ' ∧ frM [169, 170, 175, 183] [84] σ σ' ∧ MH N S' σ' ∧ S' ≤ S + 1 ∧ (∀ i, i ∈ m → i ∈ hl f) ∧ (∀ i, i ∈ hl f → ∃ j, j ∈ m ++ hl g ∧ gUp r f g (hv j) = gUp r f g (hv i)) := by
  have hN := hT.2.2.1
  obtain ⟨a1, a2, a4, a5, a6⟩ := id h
  obtain ⟨f1, f2, f3⟩ := a5 f hfN hf
  obtain ⟨g1, g2, g3⟩ := a5 g hgN hg
  rw [e344_0 (d + 2), c_in (by omega) (by omega) (by omega), i32_ixn (by omega)]
  have dis : ∀ i, i ∈ hl g → i ∉ hl f := fun i h1 h2 => hn (a6 f g i hfN hgN hf hg h2 h1)
  have fin : ∀ σ' m, frM [169, 170, 175, 183] [84] σ σ' → chW σ' (m ++ hl g) (rd σ' 170 g) → (∀ i, i ∈ m → i ∈ hl f) → m.Nodup → (∀ t, t ≠ g → rd σ' 170 t = rd σ 170 t) → (∀ i, i ∉ hl f → rd σ' 175 i = rd σ 175 i) → HM N (gUp r f g) (hlM hl g m) hv H σ' := by
    intro σ' m w c1 c2 c3 c4 c5
    refine ⟨by rw [w.2 73 rfl]; exact a1, a2, fun i hi => by rw [w.rd (j := 174) rfl]; exact a4 i hi, fun t ht hr => ?_, ?_⟩
    · obtain ⟨r1, r2⟩ := gUp_rt hg hn hr
      by_cases e : t = g
      · subst e
        rw [show hlM hl t m t = m ++ hl t from if_pos rfl]
        exact ⟨c1, List.nodup_append.mpr ⟨c3, g2, fun a ha b hb q => dis b hb (q ▸ c2 a ha)⟩, fun i hi => (List.mem_append.mp hi).elim (fun k => f3 i (c2 i k)) (g3 i)⟩
      · rw [show hlM hl g m t = hl t from if_neg e, c4 t e]
        obtain ⟨b1, b2, b3⟩ := a5 t ht r1
        exact ⟨b1.congr (fun i hi => c5 i (fun k => r2 (a6 t f i ht hfN r1 hf hi k))), b2, b3⟩
    · intro t t' i ht ht' hr hr' hi hi'
      obtain ⟨r1, r2⟩ := gUp_rt hg hn hr
      obtain ⟨r1', r2'⟩ := gUp_rt hg hn hr'
      by_cases e : t = g
      · by_cases e' : t' = g
        · rw [e, e']
        · rw [show hlM hl g m t' = hl t' from if_neg e'] at hi'
          subst e
          rw [show hlM hl t m t = m ++ hl t from if_pos rfl] at hi
          rcases List.mem_append.mp hi with q | q
          · exact absurd (a6 f t' i hfN ht' hf r1' (c2 i q) hi') (fun k => r2' k.symm)
          · exact a6 t t' i ht ht' r1 r1' q hi'
      · rw [show hlM hl g m t = hl t from if_neg e] at hi
        by_cases e' : t' = g
        · subst e'
          rw [show hlM hl t' m t' = m ++ hl t' from if_pos rfl] at hi'
          rcases List.mem_append.mp hi' with q | q
          · exact absurd (a6 t f i ht hfN r1 hf hi (c2 i q)) (fun k => r2 k)
          · exact a6 t t' i ht ht' r1 r1' hi q
        · rw [show hlM hl g m t' = hl t' from if_neg e'] at hi'
          exact a6 t t' i ht ht' r1 r1' hi hi'
  cases hlf : hl f with
  | nil =>
    rw [hlf] at f1
    rw [show rd σ 170 f = i32 (-1) from f1, i32_raw, c2_ne (by omega) (by omega) (by omega) (by omega), c_f (by omega)]
    exact ⟨σ, [], S, rfl, hT, fin σ [] frM.refl g1 (fun i hi => (by cases hi)) List.nodup_nil (fun _ _ => rfl) (fun _ _ => rfl), frM.refl, hS, by omega, fun i hi => (by cases hi), fun i hi => (by cases hi)⟩
  | cons i0 l1 =>
    have hi0 : i0 < H := f3 i0 (by rw [hlf]; exact List.mem_cons_self)
    have e0 : rd σ 170 f = i32 (i0 : Int) := by rw [hlf] at f1; exact f1.1
    rw [e0, i32_raw, c2_ne (by omega) (by omega) (by omega) (by omega), c_t (by omega), e344_11 (d + 2)]
    obtain ⟨s1, j1, T1, w1, M1, q1⟩ := markHeld_m (L := L) (xs := xs) (l := hl g) (hv := hv) a2 hT (fun i hi => ⟨g3 i hi, a4 i (g3 i hi)⟩) g1 hgN hS hS2 d jv
    rw [bV_ok j1, c_in (by omega) (by omega) (by omega), i32_ixn (by omega), w1.rd (j := 170) rfl]
    obtain ⟨s2, m, k1, k2, k3, k4, k5, k6, k7, k8, k9, k10⟩ := join_loop (L := L) (xs := xs) (l0 := hl g) (hv := hv) a2 hgN (by omega) (d + 1) (hl f) [] s1 (rd σ 170 f) (.int (i32 f)) (dj v4) (dj v5) T1 (fun i hi => ⟨f3 i hi, by rw [w1.rd (j := 174) rfl]; exact a4 i (f3 i hi)⟩) (f1.congr (fun i _ => w1.rd (j := 175) rfl i)) f2 (fun i hi hg' => dis i hg' hi) (by rw [w1.rd (j := 170) rfl]; exact g1.congr (fun i _ => w1.rd (j := 175) rfl i)) M1 q1
    have w12 : frM [169, 170, 175, 183] [84] σ s2 := (w1.sub rfl rfl).trans (k3.sub rfl rfl)
    refine ⟨s2, m, S + 1, k1, k2, fin s2 m w12 k5 k6 k7 (fun t ht => by rw [k9 t ht, w1.rd (j := 170) rfl]) (fun i hi => by rw [k10 i hi, w1.rd (j := 175) rfl]), w12, k4, Nat.le_refl _, by rw [← hlf]; exact k6, by rw [← hlf]; exact k8⟩
theorem alH_joinM {r : Nat → Nat} {hl : Nat → List Nat} {hv : Nat → Nat} {f g : Nat} {m : List Nat} (hf : r f = f) (hg : r g = g) (hn : f ≠ g) (h1 : ∀ i, i ∈ m → i ∈ hl f) (h2 : ∀ i, i ∈ hl f → ∃ j, j ∈ m ++ hl g ∧ gUp r f g (hv j) = gUp r f g (hv i)) : alH r (hC hl hv) (gUp r f g) (hC (hlM hl g m) hv) := by
  have uf : ∀ t, r t = f → gUp r f g t = g := fun t h => if_pos h
  have un : ∀ t, r t ≠ f → gUp r f g t = r t := fun t h => if_neg h
  refine ⟨fun t u q => ?_, fun s v q => ?_⟩
  · obtain ⟨i, hi, e⟩ := q
    by_cases p : gUp r f g t = g
    · rw [p, show hlM hl g m g = m ++ hl g from if_pos rfl] at hi
      rcases List.mem_append.mp hi with hi | hi
      · exact ⟨f, u, by rw [p, uf f hf], ⟨i, by rw [hf]; exact h1 i hi, e⟩, rfl⟩
      · exact ⟨g, u, by rw [p, un g (by rw [hg]; exact fun q => hn q.symm), hg], ⟨i, by rw [hg]; exact hi, e⟩, rfl⟩
    · have p2 : r t ≠ f := fun q => p (uf t q)
      rw [show hlM hl g m (gUp r f g t) = hl (gUp r f g t) from if_neg p, un t p2] at hi
      exact ⟨t, u, rfl, ⟨i, hi, e⟩, rfl⟩
  · obtain ⟨i, hi, e⟩ := q
    by_cases p : r s = f
    · rw [p] at hi
      obtain ⟨j, hj, ej⟩ := h2 i hi
      exact ⟨hv j, ⟨j, by rw [uf s p, show hlM hl g m g = m ++ hl g from if_pos rfl]; exact hj, rfl⟩, by rw [ej, e]⟩
    · refine ⟨v, ⟨i, ?_, e⟩, rfl⟩
      rw [un s p]
      by_cases p2 : r s = g
      · rw [p2] at hi ⊢; rw [show hlM hl g m g = m ++ hl g from if_pos rfl]; exact List.mem_append_right _ hi
      · rw [show hlM hl g m (r s) = hl (r s) from if_neg p2]; exact hi
end HLM
