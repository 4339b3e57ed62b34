/-! REGIONS, THE COMPONENT: how much an arrow holds -/
section HELDBY
variable {L : Nat} {xs : Nat → Int32} {σ σ' σ0 : tvS} {K1 K2 N H : Nat} {C : tG} {c : Nat → Nat} {hl : Nat → List Nat} {hv : Nat → Nat}
/-- the different classes of a row, without ints -/
def hbx (C : tG) (c hv : Nat → Nat) : List Nat → List Nat → List Nat
  | _, [] => []
  | pre, i :: l => if C.1 (c (hv i)) = 1 ∨ c (hv i) ∈ pre.map (fun g => c (hv g)) then hbx C c hv (pre ++ [i]) l else c (hv i) :: hbx C c hv (pre ++ [i]) l
theorem hbx_mem {y : Nat} : ∀ (l pre : List Nat), (y ∈ hbx C c hv pre l → ∃ i, i ∈ l ∧ c (hv i) = y ∧ C.1 y ≠ 1 ∧ y ∉ pre.map (fun g => c (hv g))) ∧ ((∃ i, i ∈ l ∧ c (hv i) = y ∧ C.1 y ≠ 1) → y ∉ pre.map (fun g => c (hv g)) → y ∈ hbx C c hv pre l) := by
  intro l
  induction l with
  | nil => intro pre; exact ⟨fun h => (by cases h), fun ⟨i, h, _⟩ => (by cases h)⟩
  | cons i l ih =>
    intro pre
    obtain ⟨i1, i2⟩ := ih (pre ++ [i])
    have e : hbx C c hv pre (i :: l) = if C.1 (c (hv i)) = 1 ∨ c (hv i) ∈ pre.map (fun g => c (hv g)) then hbx C c hv (pre ++ [i]) l else c (hv i) :: hbx C c hv (pre ++ [i]) l := rfl
    have mp : y ∈ (pre ++ [i]).map (fun g => c (hv g)) ↔ y ∈ pre.map (fun g => c (hv g)) ∨ y = c (hv i) := by
      rw [List.map_append, List.mem_append]
      exact or_congr Iff.rfl List.mem_singleton
    rw [e]
    by_cases k : C.1 (c (hv i)) = 1 ∨ c (hv i) ∈ pre.map (fun g => c (hv g))
    · rw [if_pos k]
      constructor
      · intro h
        obtain ⟨j, j1, j2, j3, j4⟩ := i1 h
        exact ⟨j, List.mem_cons_of_mem _ j1, j2, j3, fun g => j4 (mp.mpr (.inl g))⟩
      · rintro ⟨j, j1, j2, j3⟩ hn
        rcases List.mem_cons.mp j1 with g | g
        · rw [g] at j2
          rcases k with k | k
          · rw [j2] at k; exact absurd k j3
          · rw [j2] at k; exact absurd k hn
        · refine i2 ⟨j, g, j2, j3⟩ (fun q => ?_)
          rcases mp.mp q with q | q
          · exact hn q
          · rcases k with k | k
            · rw [← q] at k; exact j3 k
            · rw [← q] at k; exact hn k
    · rw [if_neg k]
      constructor
      · intro h
        rcases List.mem_cons.mp h with g | g
        · rw [g]; exact ⟨i, List.mem_cons_self, rfl, fun q => k (.inl q), fun q => k (.inr q)⟩
        · obtain ⟨j, j1, j2, j3, j4⟩ := i1 g
          exact ⟨j, List.mem_cons_of_mem _ j1, j2, j3, fun g => j4 (mp.mpr (.inl g))⟩
      · rintro ⟨j, j1, j2, j3⟩ hn
        by_cases q : y = c (hv i)
        · rw [q]; exact List.mem_cons_self
        · rcases List.mem_cons.mp j1 with g | g
          · rw [g] at j2; exact absurd j2.symm q
          · exact List.mem_cons_of_mem _ (i2 ⟨j, g, j2, j3⟩ (fun h => (mp.mp h).elim hn q))
theorem hbx_nodup : ∀ (l pre : List Nat), (hbx C c hv pre l).Nodup := by
  intro l
  induction l with
  | nil => intro pre; exact List.nodup_nil
  | cons i l ih =>
    intro pre
    have e : hbx C c hv pre (i :: l) = if C.1 (c (hv i)) = 1 ∨ c (hv i) ∈ pre.map (fun g => c (hv g)) then hbx C c hv (pre ++ [i]) l else c (hv i) :: hbx C c hv (pre ++ [i]) l := rfl
    rw [e]
    by_cases k : C.1 (c (hv i)) = 1 ∨ c (hv i) ∈ pre.map (fun g => c (hv g))
    · rw [if_pos k]; exact ih _
    · rw [if_neg k]
      refine List.nodup_cons.mpr ⟨fun h => ?_, ih _⟩
      obtain ⟨_, _, _, _, h4⟩ := (hbx_mem (y := c (hv i)) l (pre ++ [i])).1 h
      exact h4 (by rw [List.map_append, List.mem_append]; exact .inr (List.mem_singleton.mpr rfl))
theorem hbx_len : ∀ (l pre : List Nat), (hbx C c hv pre l).length ≤ l.length := by
  intro l
  induction l with
  | nil => intro pre; exact Nat.le_refl _
  | cons i l ih =>
    intro pre
    have e : hbx C c hv pre (i :: l) = if C.1 (c (hv i)) = 1 ∨ c (hv i) ∈ pre.map (fun g => c (hv g)) then hbx C c hv (pre ++ [i]) l else c (hv i) :: hbx C c hv (pre ++ [i]) l := rfl
    have := ih (pre ++ [i])
    rw [e]
    by_cases k : C.1 (c (hv i)) = 1 ∨ c (hv i) ∈ pre.map (fun g => c (hv g))
    · rw [if_pos k]; show _ ≤ l.length + 1; omega
    · rw [if_neg k]; show (hbx C c hv (pre ++ [i]) l).length + 1 ≤ l.length + 1; omega
/-- whether one ahead is of the same class -/
theorem hb_inner {i : Nat} (hi : i < H ∧ rd σ0 59 i = i32 (hv i : Int) ∧ hv i < N) (h59 : H ≤ ln σ0 59) (h60 : ln σ0 60 = ln σ0 59) (h59' : ln σ0 59 ≤ 1000000) (x1 x2 : Int32) (d : Nat) : ∀ (pre : List Nat) (l : List Nat) (σ : tvS) (x4 x5 : Int32), TC N C c σ → ROOM K1 K2 σ → frW [52] σ0 σ → (∀ g, g ∈ pre → g < H ∧ rd σ0 59 g = i32 (hv g : Int) ∧ hv g < N) → i ∉ pre → chL σ0 (pre ++ i :: l) x5 → (x4 = 0 ∨ x4 = 1) →
    ∃ (σ' : tvS) (y : Int32) (w5 : Value), rn L xs (d + 2) 103 43 [.ref 50, .int x1, .int x2, .int (i32 (i : Int)), .int x4, .int x5] [] σ = rn L xs (d + 2) 103 97 [.ref 50, .int x1, .int x2, .int (i32 (i : Int)), .int y, w5] [] σ' ∧ TC N C c σ' ∧ ROOM K1 K2 σ' ∧ frW [52] σ0 σ' ∧ ((y = 1 ∧ (x4 = 1 ∨ c (hv i) ∈ pre.map (fun g => c (hv g)))) ∨ (y = 0 ∧ x4 = 0 ∧ c (hv i) ∉ pre.map (fun g => c (hv g)))) := by
  intro pre
  induction pre with
  | nil =>
    intro l σ x4 x5 hT hR w hg hn hc h4
    have e5 : x5 = i32 (i : Int) := hc.1
    refine ⟨σ, x4, .int x5, ?_, hT, hR, w, ?_⟩
    · rw [e103_43 (d + 1), e5, c2_refl]
    · rcases h4 with k | k
      · exact .inr ⟨k, k, fun h => (by cases h)⟩
      · exact .inl ⟨k, .inl k⟩
  | cons g pre ih =>
    intro l σ x4 x5 hT hR w hg hn hc h4
    obtain ⟨e5, hc2⟩ := hc
    obtain ⟨g1, g2, g3⟩ := hg g List.mem_cons_self
    have hgi : g ≠ i := fun e => hn (by rw [e]; exact List.mem_cons_self)
    rcases h4 with k | k
    · obtain ⟨s1, a1, a2, a3, a4⟩ := find_C (L := L) (xs := xs) hT hR g3 d jv jv jv
      obtain ⟨s2, b1, b2, b3, b4⟩ := find_C (L := L) (xs := xs) a2 a3 hi.2.2 d jv jv jv
      have w2 : frW [52] σ0 s2 := w.trans (a4.trans b4)
      have w1 : frW [52] σ0 s1 := w.trans a4
      have hN := hT.lt hR
      have rg := hT.rlt g3
      have ri := hT.rlt hi.2.2
      have head : rn L xs (d + 2) 103 43 [.ref 50, .int x1, .int x2, .int (i32 (i : Int)), .int x4, .int x5] [] σ = cond (decide (¬ (c (hv g) : Int) = (c (hv i) : Int))) (rn L xs (d + 2) 103 82 [.ref 50, .int x1, .int x2, .int (i32 (i : Int)), .int x4, .int x5] [] s2) (rn L xs (d + 2) 103 83 [.ref 50, .int x1, .int x2, .int (i32 (i : Int)), .int x4, .int x5] [.int 1] s2) := by
        rw [e103_43 (d + 1), e5, c2_eq (by omega) (by omega) (by omega) (by omega), c_f (by omega), k, show pv_c1 .ne (0 : Int32) = false from rfl, cond_false, c_in (by omega) (by rw [w.ln]; omega) (by rw [w.ln]; omega), i32_ixn (by omega), w.1 59 rfl, g2, bI_ok a1, c_in (by omega) (by rw [w1.ln]; omega) (by rw [w1.ln]; omega), i32_ixn (by omega), w1.1 59 rfl, hi.2.1, bI_ok b1, c2_ne (by omega) (by omega) (by omega) (by omega)]
      have nx : ∀ (y : Int32), (y = 0 ∨ y = 1) → rn L xs (d + 2) 103 83 [.ref 50, .int x1, .int x2, .int (i32 (i : Int)), .int x4, .int x5] [.int y] s2 = rn L xs (d + 2) 103 43 [.ref 50, .int x1, .int x2, .int (i32 (i : Int)), .int y, .int (rd σ0 60 g)] [] s2 := fun y _ => by
        rw [e103_83, e5, c_in (by omega) (by rw [w2.ln, h60]; omega) (by rw [w2.ln, h60]; omega), i32_ixn (by omega), w2.1 60 rfl]
      have go : ∀ y : Int32, (y = 0 ∨ y = 1) → _ := fun y hy => ih l s2 y (rd σ0 60 g) b2 b3 w2 (fun g' h => hg g' (List.mem_cons_of_mem _ h)) (fun h => hn (List.mem_cons_of_mem _ h)) hc2 hy
      by_cases q : c (hv g) = c (hv i)
      · obtain ⟨σ', y, w5, z1, z2, z3, z4, z5⟩ := go 1 (.inr rfl)
        refine ⟨σ', y, w5, ?_, z2, z3, z4, ?_⟩
        · rw [head, decide_eq_false (by omega), cond_false, nx 1 (.inr rfl)]; exact z1
        · rcases z5 with ⟨h1, _⟩ | ⟨_, h2, _⟩
          · exact .inl ⟨h1, .inr (by rw [List.map_cons, q]; exact List.mem_cons_self)⟩
          · cases h2
      · obtain ⟨σ', y, w5, z1, z2, z3, z4, z5⟩ := go 0 (.inl rfl)
        refine ⟨σ', y, w5, ?_, z2, z3, z4, ?_⟩
        · rw [head, decide_eq_true (by omega), cond_true, e103_82, nx 0 (.inl rfl)]; exact z1
        · rcases z5 with ⟨h1, h2⟩ | ⟨h1, h2, h3⟩
          · refine .inl ⟨h1, .inr ?_⟩
            rcases h2 with h2 | h2
            · cases h2
            · rw [List.map_cons]; exact List.mem_cons_of_mem _ h2
          · refine .inr ⟨h1, k, fun h => ?_⟩
            rw [List.map_cons] at h
            rcases List.mem_cons.mp h with h | h
            · exact q h.symm
            · exact h3 h
    · refine ⟨σ, x4, .int x5, ?_, hT, hR, w, .inl ⟨k, .inl k⟩⟩
      rw [e103_43 (d + 1), e5, c2_eq (by omega) (by omega) (by omega) (by omega), c_f (by omega), k, show pv_c1 .ne (1 : Int32) = true from rfl, cond_true]
theorem hb_outer {t : Nat} (ht : t < N) (hln : N ≤ ln σ0 55) (hln' : ln σ0 55 ≤ 1000000) (h59 : H ≤ ln σ0 59) (h60 : ln σ0 60 = ln σ0 59) (h59' : ln σ0 59 ≤ 1000000) (d : Nat) : ∀ (l pre : List Nat) (n : Nat) (σ : tvS) (x3 : Int32) (v4 v5 : Value), TC N C c σ → ROOM K1 K2 σ → frW [52] σ0 σ → (pre ++ l).Nodup → (∀ g, g ∈ pre ++ l → g < H ∧ rd σ0 59 g = i32 (hv g : Int) ∧ hv g < N) → chL σ0 (pre ++ l) (rd σ0 55 t) → chL σ0 l x3 → n + l.length < 1000000 →
    ∃ (σ' : tvS), rn L xs (d + 3) 103 9 [.ref 50, .int (i32 (t : Int)), .int (i32 (n : Int)), .int x3, v4, v5] [] σ = some (.inl (some (.int (i32 ((n + (hbx C c hv pre l).length : Nat) : Int)))), σ') ∧ TC N C c σ' ∧ ROOM K1 K2 σ' ∧ frW [52] σ0 σ' := by
  intro l
  induction l with
  | nil =>
    intro pre n σ x3 v4 v5 hT hR w hd hg hc hc2 hn
    refine ⟨σ, ?_, hT, hR, w⟩
    have e : x3 = i32 (-1) := hc2
    rw [e103_9 (d + 2), e, i32_raw, c2_refl, e103_120]
    rfl
  | cons i l ih =>
    intro pre n σ x3 v4 v5 hT hR w hd hg hc hc2 hn
    obtain ⟨e3, hc3⟩ := hc2
    have hi := hg i (List.mem_append_right _ List.mem_cons_self)
    obtain ⟨s1, a1, a2, a3, a4⟩ := find_C (L := L) (xs := xs) hT hR hi.2.2 d jv jv jv
    have w1 : frW [52] σ0 s1 := w.trans a4
    have hN := hT.lt hR
    have ri := hT.rlt hi.2.2
    obtain ⟨u1, u2, u3⟩ := a2.2.2.2.2.2.2.1 (c (hv i)) ri
    have l51 := a2.2.2.1
    have b51 := a3.le (k := 51) (M := 122880) (by decide)
    have p89 : rn L xs (d + 2) 89 0 [.ref 50, .int (i32 (hv i : Int))] [] σ = some (.inl (some (.int (i32 (C.1 (c (hv i)) : Int)))), s1) := by
      rw [e89_0 (d + 1), bI_ok a1, a4.rh 51, Nat.beq_refl, Bool.and_true, cond_true, c_in (by omega) (by omega) (by omega), i32_ixn (by omega), u1]
    have hn1 : n + (l.length + 1) < 1000000 := hn
    have hnp : i ∉ pre := fun h => by
      have := (List.nodup_append.mp hd).2.2 i h i List.mem_cons_self
      exact this rfl
    have st : ∃ y : Int32, (y = 0 ∨ y = 1) ∧ (y = 1 ↔ C.1 (c (hv i)) = 1) ∧ rn L xs (d + 3) 103 9 [.ref 50, .int (i32 (t : Int)), .int (i32 (n : Int)), .int x3, v4, v5] [] σ = rn L xs (d + 3) 103 43 [.ref 50, .int (i32 (t : Int)), .int (i32 (n : Int)), .int (i32 (i : Int)), .int y, .int (rd σ0 55 t)] [] s1 := by
      have head : rn L xs (d + 3) 103 9 [.ref 50, .int (i32 (t : Int)), .int (i32 (n : Int)), .int x3, v4, v5] [] σ = cond (decide (¬ (C.1 (c (hv i)) : Int) = 1)) (rn L xs (d + 3) 103 32 [.ref 50, .int (i32 (t : Int)), .int (i32 (n : Int)), .int (i32 (i : Int)), (dj v4), (dj v5)] [] s1) (rn L xs (d + 3) 103 33 [.ref 50, .int (i32 (t : Int)), .int (i32 (n : Int)), .int (i32 (i : Int)), (dj v4), (dj v5)] [.int 1] s1) := by
        rw [e103_9 (d + 2), e3, i32_raw, c2_eq (by omega) (by omega) (by omega) (by omega), c_f (by omega), c_in (by omega) (by rw [w.ln]; omega) (by rw [w.ln]; omega), i32_ixn (by omega), w.1 59 rfl, hi.2.1, bI_ok p89, show (1 : Int32) = i32 1 from rfl, c2_ne (by omega) (by omega) (by omega) (by omega)]
      have nx : ∀ y : Int32, rn L xs (d + 3) 103 33 [.ref 50, .int (i32 (t : Int)), .int (i32 (n : Int)), .int (i32 (i : Int)), (dj v4), (dj v5)] [.int y] s1 = rn L xs (d + 3) 103 43 [.ref 50, .int (i32 (t : Int)), .int (i32 (n : Int)), .int (i32 (i : Int)), .int y, .int (rd σ0 55 t)] [] s1 := fun y => by
        rw [e103_33, c_in (by omega) (by rw [w1.ln]; omega) (by rw [w1.ln]; omega), i32_ixn (by omega), w1.1 55 rfl]
      by_cases q : C.1 (c (hv i)) = 1
      · exact ⟨1, .inr rfl, ⟨fun _ => q, fun _ => rfl⟩, by rw [head, decide_eq_false (by omega), cond_false, nx]⟩
      · exact ⟨0, .inl rfl, ⟨fun h => (by cases h), fun h => absurd h q⟩, by rw [head, decide_eq_true (by omega), cond_true, e103_32, nx]⟩
    obtain ⟨y, y1, y2, y3⟩ := st
    obtain ⟨s2, y', w5, b1, b2, b3, b4, b5⟩ := hb_inner (L := L) (xs := xs) (i := i) hi h59 h60 h59' (i32 (t : Int)) (i32 (n : Int)) (d + 1) pre l s1 y (rd σ0 55 t) a2 a3 w1 (fun g hgm => hg g (List.mem_append_left _ hgm)) hnp hc y1
    have eh : hbx C c hv pre (i :: l) = if C.1 (c (hv i)) = 1 ∨ c (hv i) ∈ pre.map (fun g => c (hv g)) then hbx C c hv (pre ++ [i]) l else c (hv i) :: hbx C c hv (pre ++ [i]) l := rfl
    have hpp : pre ++ [i] ++ l = pre ++ i :: l := by rw [List.append_assoc]; rfl
    have nx2 : ∀ (z k : Nat) (u : Int32), u = i32 (k : Int) → z = n + k → rn L xs (d + 3) 103 108 [.ref 50, .int (i32 (t : Int)), .int (i32 (n : Int)), .int (i32 (i : Int)), .int y', w5] [.int u, .int (i32 (n : Int))] s2 = rn L xs (d + 3) 103 9 [.ref 50, .int (i32 (t : Int)), .int (i32 (z : Int)), .int (rd σ0 60 i), .int y', w5] [] s2 := fun z k u hu hz => by
      rw [e103_108, c_in (by omega) (by rw [b4.ln, h60]; omega) (by rw [b4.ln, h60]; omega), i32_ixn (by omega), b4.1 60 rfl, hu, i32_add]
      congr 1
      rw [show ((n : Int) + (k : Int)) = (z : Int) by omega]
    rcases b5 with ⟨k1, k2⟩ | ⟨k1, k2, k3⟩
    · have hcond : C.1 (c (hv i)) = 1 ∨ c (hv i) ∈ pre.map (fun g => c (hv g)) := k2.imp y2.mp id
      obtain ⟨σ', z1, z2, z3, z4⟩ := ih (pre ++ [i]) n s2 (rd σ0 60 i) (.int y') w5 b2 b3 b4 (by rw [hpp]; exact hd) (fun g hgm => hg g (by rw [← hpp]; exact hgm)) (by rw [hpp]; exact hc) hc3 (by omega)
      refine ⟨σ', ?_, z2, z3, z4⟩
      rw [y3, b1, e103_97, k1, show pv_c1 .eq (1 : Int32) = false from rfl, cond_false, eh, if_pos hcond]
      rw [k1] at nx2 z1
      rw [nx2 n 0 0 rfl rfl]
      exact z1
    · have hcond : ¬ (C.1 (c (hv i)) = 1 ∨ c (hv i) ∈ pre.map (fun g => c (hv g))) := fun h => h.elim (fun h => by have := y2.mpr h; rw [k2] at this; cases this) k3
      obtain ⟨σ', z1, z2, z3, z4⟩ := ih (pre ++ [i]) (n + 1) s2 (rd σ0 60 i) (.int y') w5 b2 b3 b4 (by rw [hpp]; exact hd) (fun g hgm => hg g (by rw [← hpp]; exact hgm)) (by rw [hpp]; exact hc) hc3 (by omega)
      refine ⟨σ', ?_, z2, z3, z4⟩
      rw [y3, b1, e103_97, k1, show pv_c1 .eq (0 : Int32) = true from rfl, cond_true, e103_107, eh, if_neg hcond]
      rw [k1] at nx2 z1
      rw [nx2 (n + 1) 1 1 rfl rfl, z1]
      have el : (c (hv i) :: hbx C c hv (pre ++ [i]) l).length = (hbx C c hv (pre ++ [i]) l).length + 1 := rfl
      rw [el, show n + 1 + (hbx C c hv (pre ++ [i]) l).length = n + ((hbx C c hv (pre ++ [i]) l).length + 1) by omega]
/-- how many an arrow holds -/
theorem heldBy_c {t : Nat} (hT : TC N C c σ) (hH : HO N c hl hv H σ) (hR : ROOM K1 K2 σ) (ht : t < N) (hr : c t = t) (d : Nat) (v2 v3 v4 v5 : Value) :
    ∃ (σ' : tvS), rn L xs (d + 3) 103 0 [.ref 50, .int (i32 (t : Int)), v2, v3, v4, v5] [] σ = some (.inl (some (.int (i32 ((hbx C c hv [] (hl t)).length : Int)))), σ') ∧ TC N C c σ' ∧ ROOM K1 K2 σ' ∧ frW [52] σ σ' := by
  obtain ⟨h1, h2, h3, h4⟩ := hH.2.2.2.2.1 t ht hr
  have b59 := hR.le (k := 59) (M := 212992) (by decide)
  have b51 := hR.le (k := 51) (M := 122880) (by decide)
  have n55 : ln σ 55 = ln σ 51 := hT.2.2.2.1 55 (by omega) (by omega)
  have l51 := hT.2.2.1
  have hfl : (hl t).length ≤ H := by
    have := nodup_lt (N := H) h2 h3
    exact this
  have hHl := hH.2.1
  obtain ⟨σ', z1, z2, z3, z4⟩ := hb_outer (L := L) (xs := xs) (K1 := K1) (K2 := K2) (C := C) (c := c) (hv := hv) (N := N) (H := H) (σ0 := σ) ht (by omega) (by omega) hHl hH.2.2.1 (by omega) d (hl t) [] 0 σ (rd σ 55 t) v4 v5 hT hR frW.refl h2 (fun g hg => ⟨h3 g hg, hH.2.2.2.1 g (h3 g hg)⟩) h1 h1 (by omega)
  refine ⟨σ', ?_, z2, z3, z4⟩
  rw [e103_0, c_in (by omega) (by omega) (by omega), i32_ixn (by omega)]
  rw [Nat.zero_add] at z1
  exact z1
end HELDBY
