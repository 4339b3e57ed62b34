/-! TYPES OF THE COMPONENT: an arrow holds one more -/
section HLC
variable {L : Nat} {xs : Nat → Int32} {σ σ' : tvS}
theorem held_loop {K : Nat → Prop} {N : Nat} {G : tG} {r hv : Nat → Nat} {K1 K2 H u : Nat} (hu : u < N) (d : Nat) : ∀ (l : List Nat) (σ : tvS) (x4 : Int32) (v1 v2 : Value), TCq K N G r σ → ROOM K1 K2 σ → H ≤ ln σ 59 → ln σ 60 = ln σ 59 → (∀ i, i ∈ l → i < H ∧ rd σ 59 i = i32 (hv i : Int) ∧ hv i < N) → chL σ l x4 →
    ∃ σ' x, rn L xs (d + 2) 90 18 [.ref 50, v1, v2, .int (i32 u), .int x4] [] σ = some (.inl (some (.int x)), σ') ∧ TCq K N G r σ' ∧ ROOM K1 K2 σ' ∧ frW [52] σ σ' ∧ ((x = 1 ∧ ∃ i, i ∈ l ∧ r (hv i) = u) ∨ (x = 0 ∧ ¬ ∃ i, i ∈ l ∧ r (hv i) = u)) := by
  intro l
  induction l with
  | nil =>
    intro σ x4 v1 v2 hT hR _ _ _ hc
    rw [e90_18, show x4 = i32 (-1) from hc, i32_raw, c2_refl, e90_53]
    exact ⟨σ, 0, rfl, hT, hR, frW.refl, .inr ⟨rfl, fun ⟨i, hi, _⟩ => (by cases hi)⟩⟩
  | cons i l ih =>
    intro σ x4 v1 v2 hT hR h59 h60 hl hc
    obtain ⟨h1, h2, h3⟩ := hl i List.mem_cons_self
    have hN := hT.lt hR
    have b59 := hR.le (k := 59) (M := 212992) (by decide)
    obtain ⟨c1, c2⟩ := hc
    obtain ⟨s1, f1, T1, R1, w1⟩ := find_Q (L := L) (xs := xs) hT hR h3 d jv jv jv
    have hr := hT.rlt h3
    rw [e90_18 (d + 1), c1, i32_raw, c2_eq (by omega) (by omega) (by omega) (by omega), c_f (by omega), c_in (by omega) (by omega) (by omega), i32_ixn (by omega), h2, bI_ok f1, c2_ne (by omega) (by omega) (by omega) (by omega)]
    by_cases q : r (hv i) = u
    · rw [c_f (by omega)]
      exact ⟨s1, 1, rfl, T1, R1, w1, .inl ⟨rfl, i, List.mem_cons_self, q⟩⟩
    · rw [c_t (by omega), e90_41, w1.ln, c_in (by omega) (by omega) (by omega), i32_ixn (by omega), w1.1 60 rfl]
      obtain ⟨σ', x, i1, i2, i3, i4, i5⟩ := ih s1 _ (dj v1) (dj v2) T1 R1 (by rw [w1.ln]; exact h59) (by rw [w1.ln, w1.ln]; exact h60) (fun j hj => by rw [w1.1 59 rfl]; exact hl j (List.mem_cons_of_mem _ hj)) (c2.congr (fun j _ => w1.1 60 rfl j))
      refine ⟨σ', x, i1, i2, i3, w1.trans i4, ?_⟩
      rcases i5 with ⟨e, j, hj, e2⟩ | ⟨e, e2⟩
      · exact .inl ⟨e, j, List.mem_cons_of_mem _ hj, e2⟩
      · refine .inr ⟨e, fun ⟨j, hj, e3⟩ => ?_⟩
        rcases List.mem_cons.mp hj with hj | hj
        · rw [hj] at e3; exact q e3
        · exact e2 ⟨j, hj, e3⟩
theorem isHeld_c {K : Nat → Prop} {N : Nat} {G : tG} {r : Nat → Nat} {hl : Nat → List Nat} {hv : Nat → Nat} {H K1 K2 x u : Nat} (hT : TCq K N G r σ) (hH : HO N r hl hv H σ) (hR : ROOM K1 K2 σ) (hx : x < N) (hu : u < N) (d : Nat) (v3 v4 : Value) :
    ∃ σ' y, rn L xs (d + 2) 90 0 [.ref 50, .int (i32 x), .int (i32 u), v3, v4] [] σ = some (.inl (some (.int y)), σ') ∧ TCq K N G r σ' ∧ ROOM K1 K2 σ' ∧ frW [52] σ σ' ∧ ((y = 1 ∧ ∃ i, i ∈ hl (r x) ∧ r (hv i) = r u) ∨ (y = 0 ∧ ¬ ∃ i, i ∈ hl (r x) ∧ r (hv i) = r u)) := by
  obtain ⟨s1, f1, T1, R1, w1⟩ := find_Q (L := L) (xs := xs) hT hR hu d jv jv jv
  obtain ⟨s2, f2, T2, R2, w2⟩ := find_Q (L := L) (xs := xs) T1 R1 hx d jv jv jv
  have hrx := hT.rlt hx
  have l55 := T2.len R2 (j := 55) (by omega) (by omega)
  have w12 := w1.trans w2
  obtain ⟨b1, b2, b3, b4⟩ := hH.2.2.2.2.1 (r x) hrx (hT.rr hR hx)
  rw [e90_0 (d + 1), bI_ok f1, bI_ok f2, w2.rh 55, Nat.beq_refl, Bool.and_true, cond_true, c_in (by omega) (by omega) (by omega), i32_ixn (by omega), w12.1 55 rfl]
  obtain ⟨σ', y, i1, i2, i3, i4, i5⟩ := held_loop (L := L) (xs := xs) (H := H) (hv := hv) (hT.rlt hu) d (hl (r x)) s2 (rd σ 55 (r x)) (.int (i32 x)) (.int (i32 u)) T2 R2 (by rw [w12.ln]; exact hH.2.1) (by rw [w12.ln, w12.ln]; exact hH.2.2.1) (fun i hi => ⟨b3 i hi, by rw [w12.1 59 rfl]; exact hH.2.2.2.1 i (b3 i hi)⟩) (b1.congr (fun i _ => w12.1 60 rfl i))
  exact ⟨σ', y, i1, i2, i3, w12.trans i4, i5⟩
def upL (hl : Nat → List Nat) (t : Nat) (l : List Nat) : Nat → List Nat := fun s => if s = t then l else hl s
def upN (hv : Nat → Nat) (t u : Nat) : Nat → Nat := fun s => if s = t then u else hv s
def FHL : List Nat := [52, 55, 56, 59, 60]
/-- an arrow holds one more, unless it does already -/
theorem hold_c {K : Nat → Prop} {N : Nat} {G : tG} {r : Nat → Nat} {hl : Nat → List Nat} {hv : Nat → Nat} {H K1 K2 x u : Nat} (hT : TCq K N G r σ) (hH : HO N r hl hv H σ) (hR : ROOM K1 K2 σ) (hHm : H < 212992) (hx : x < N) (hu : u < N) (d : Nat) (v3 : Value) :
    (∃ σ', rn L xs (d + 3) 88 0 [.ref 50, .int (i32 x), .int (i32 u), v3] [] σ = some (.inl (some (.int 0)), σ') ∧ TCq K N G r σ' ∧ HO N r hl hv H σ' ∧ ROOM K1 K2 σ' ∧ frT [52] [] [] σ σ' ∧ (G.1 (r u) = 1 ∨ ∃ i, i ∈ hl (r x) ∧ r (hv i) = r u)) ∨
    (∃ σ', rn L xs (d + 3) 88 0 [.ref 50, .int (i32 x), .int (i32 u), v3] [] σ = some (.inl (some (.int 1)), σ') ∧ TCq K N G r σ' ∧ HO N r (upL hl (r x) (hl (r x) ++ [H])) (upN hv H (r u)) (H + 1) σ' ∧ ROOM K1 K2 σ' ∧ frT FHL [59, 60] [11] σ σ' ∧ G.1 (r u) ≠ 1 ∧ ¬ ∃ i, i ∈ hl (r x) ∧ r (hv i) = r u) := by
  obtain ⟨s1, f1, T1, R1, w1⟩ := kind_c (L := L) (xs := xs) hT hR hu (d)
  have hk4 := (hT.2.2.2.2.2.2.1 (r u) (hT.rlt hu)).2.1
  have H1 := hH.fr (w1.G []) (w1.1 50 rfl 11) ⟨rfl, rfl, rfl, rfl⟩ ⟨rfl, rfl⟩
  rw [e88_0 (d + 2), bI_ok f1, show (1 : Int32) = i32 1 from rfl, c2_eq (by omega) (by omega) (by omega) (by omega)]
  by_cases q1 : G.1 (r u) = 1
  · rw [c_t (by omega), e88_18]
    exact .inl ⟨s1, rfl, T1, H1, R1, w1.T [] [] rfl, .inl q1⟩
  rw [c_f (by omega)]
  obtain ⟨s2, y, f2, T2, R2, w2, q2⟩ := isHeld_c (L := L) (xs := xs) T1 H1 R1 hx hu d jv jv
  have H2 := H1.fr (w2.G []) (w2.1 50 rfl 11) ⟨rfl, rfl, rfl, rfl⟩ ⟨rfl, rfl⟩
  have w12 := w1.trans w2
  rw [bI_ok f2]
  rcases q2 with ⟨e, q2⟩ | ⟨e, q2⟩
  · rw [e, show (1 : Int32) = i32 1 from rfl, c1_eq (by omega) (by omega), c_f (by omega), e88_18]
    exact .inl ⟨s2, rfl, T2, H2, R2, w12.T [] [] rfl, .inr q2⟩
  rw [e, show (0 : Int32) = i32 0 from rfl, c1_eq (by omega) (by omega), c_t (by omega)]
  right
  have hN := hT.lt hR
  have hrx := hT.rlt hx
  have hru := hT.rlt hu
  obtain ⟨s3, f3, T3, R3, w3⟩ := find_Q (L := L) (xs := xs) T2 R2 hx (d + 1) jv jv jv
  have H3 := H2.fr (w3.G []) (w3.1 50 rfl 11) ⟨rfl, rfl, rfl, rfl⟩ ⟨rfl, rfl⟩
  have w13 := w12.trans w3
  rw [e88_20 (d + 2), bI_ok f3]
  have b59 := R3.le (k := 59) (M := 212992) (by decide)
  -- once there is room
  have key : ∀ (s : tvS) (v1 : Value), TCq K N G r s → HO N r hl hv H s → ROOM K1 K2 s → frT FHL [59, 60] [11] σ s → H < ln s 59 →
      ∃ σ', rn L xs (d + 3) 88 72 [.ref 50, v1, .int (i32 u), .int (i32 (r x))] [] s = some (.inl (some (.int 1)), σ') ∧ TCq K N G r σ' ∧ HO N r (upL hl (r x) (hl (r x) ++ [H])) (upN hv H (r u)) (H + 1) σ' ∧ ROOM K1 K2 σ' ∧ frT FHL [59, 60] [11] σ σ' := by
    intro s v1 hs hh hr hf hlt
    obtain ⟨s4, f4, T4, R4, w4⟩ := find_Q (L := L) (xs := xs) hs hr hu (d + 1) jv jv jv
    obtain ⟨a1, a2, a3, a4, a5, a6⟩ := hh.fr (w4.G []) (w4.1 50 rfl 11) ⟨rfl, rfl, rfl, rfl⟩ ⟨rfl, rfl⟩
    have l55 := T4.len R4 (j := 55) (by omega) (by omega)
    have l56 := T4.len R4 (j := 56) (by omega) (by omega)
    have b59 := R4.le (k := 59) (M := 212992) (by decide)
    have lt4 : H < ln s4 59 := by rw [w4.ln]; exact hlt
    obtain ⟨b1, b2, b3, b4⟩ := a5 (r x) hrx (hT.rr hR hx)
    have e11 : rd s 50 11 = i32 (H : Int) := hh.1
    have e1 : i32 (H : Int) + 1 = i32 ((H + 1 : Nat) : Int) := by rw [show (1 : Int32) = i32 1 from rfl, i32_add]; rfl
    have nH : ∀ i, i ∈ hl (r x) → i ≠ H := fun i hi e => by have := b3 i hi; omega
    rw [e88_72 (d + 2), bI_ok f4, w4.rh 59, Nat.beq_refl, Bool.and_true, cond_true, e11, a1, c_in (by omega) (by omega) (by omega), c_in (by omega) (by omega) (by omega), c_in (by omega) (by omega) (by omega), i32_ixn (by omega), i32_ixn (by omega), i32_raw]
    -- whatever happens at the end of the chain
    have fin : ∀ s5 : tvS, frW [55, 59, 60] s4 s5 → rd s5 59 H = i32 (r u : Int) → rd s5 60 H = i32 (-1) → (∀ i, i ≠ H → rd s5 59 i = rd s4 59 i) → (∀ t, t ≠ r x → rd s5 55 t = rd s4 55 t) → (∀ i, i ∉ hl (r x) → i ≠ H → rd s5 60 i = rd s4 60 i) → chL s5 (hl (r x) ++ [H]) (rd s5 55 (r x)) →
        ∃ σ', rn L xs (d + 3) 88 134 [.ref 50, dj v1, .int (i32 u), .int (i32 (r x))] [] s5 = some (.inl (some (.int 1)), σ') ∧ TCq K N G r σ' ∧ HO N r (upL hl (r x) (hl (r x) ++ [H])) (upN hv H (r u)) (H + 1) σ' ∧ ROOM K1 K2 σ' ∧ frT FHL [59, 60] [11] σ σ' := by
      intro s5 w5 c1 c2 c3 c4 c5 c6
      have e5 : rd s5 50 11 = i32 (H : Int) := by rw [w5.1 50 rfl]; exact a1
      rw [e88_134, w5.ln, c_in (by omega) (by omega) (by omega), i32_ixn (by omega), e5, e1]
      have w6 : frT [56] [] [11] s5 (wr (wr s5 56 (r x) (i32 (H : Int))) 50 11 (i32 ((H + 1 : Nat) : Int))) := (frT_wr rfl (by decide)).trans (frT_w50 rfl)
      have w46 : frT [55, 56, 59, 60] [] [11] s4 (wr (wr s5 56 (r x) (i32 (H : Int))) 50 11 (i32 ((H + 1 : Nat) : Int))) := ((w5.T [] [11] rfl).sub rfl rfl rfl).trans (w6.sub rfl rfl rfl)
      refine ⟨_, rfl, T4.T w46 rfl ⟨rfl, rfl, rfl, rfl⟩ (fun _ _ _ => rfl), ?_, (R4.fr w5).wr.wr, hf.trans (((w4.T [] [11] rfl).sub rfl rfl rfl).trans (w46.sub rfl rfl rfl))⟩
      refine ⟨wr_self _ _ _ _, ?_, ?_, fun i hi => ?_, fun t ht hrt => ?_, ?_⟩
      · show H + 1 ≤ ln s5 59; rw [w5.ln]; omega
      · show ln s5 60 = ln s5 59; rw [w5.ln, w5.ln]; exact a3
      · rw [wr_nek (by decide), wr_nek (by decide)]
        unfold upN
        by_cases e : i = H
        · rw [if_pos e, e, c1]; exact ⟨rfl, hru⟩
        · rw [if_neg e, c3 i e]; exact a4 i (by omega)
      · rw [wr_nek (by decide), wr_nek (by decide)]
        by_cases e : t = r x
        · subst e
          rw [show upL hl (r x) (hl (r x) ++ [H]) (r x) = hl (r x) ++ [H] from if_pos rfl]
          refine ⟨c6.congr (fun i _ => by rw [wr_nek (by decide), wr_nek (by decide)]), List.nodup_append.mpr ⟨b2, List.nodup_cons.mpr ⟨fun k => (by cases k), List.nodup_nil⟩, fun a ha b hb e => nH a ha (e.trans (List.mem_singleton.mp hb))⟩, fun i hi => ?_, fun i hi => ?_⟩
          · rcases List.mem_append.mp hi with hi | hi
            · have := b3 i hi; omega
            · rw [List.mem_singleton.mp hi]; omega
          · rw [List.getLast?_append] at hi
            have : i = H := by simpa using hi.symm
            rw [wr_nek (by decide), wr_self, this]
        · rw [show upL hl (r x) (hl (r x) ++ [H]) t = hl t from if_neg e, c4 t e, wr_nek (by decide), wr_nei e, w5.1 56 rfl]
          obtain ⟨d1, d2, d3, d4⟩ := a5 t ht hrt
          exact ⟨d1.congr (fun i hi => by rw [wr_nek (by decide), wr_nek (by decide)]; exact c5 i (fun k => e (a6 t (r x) i ht hrx hrt (hT.rr hR hx) hi k)) (by have := d3 i hi; omega)), d2, fun i hi => by have := d3 i hi; omega, d4⟩
      · intro t t' i ht ht' hrt hrt' hi hi'
        by_cases e : t = r x
        · by_cases e' : t' = r x
          · rw [e, e']
          · rw [show upL hl (r x) (hl (r x) ++ [H]) t' = hl t' from if_neg e'] at hi'
            rw [e, show upL hl (r x) (hl (r x) ++ [H]) (r x) = hl (r x) ++ [H] from if_pos rfl] at hi
            rcases List.mem_append.mp hi with q | q
            · rw [e]; exact a6 (r x) t' i hrx ht' (hT.rr hR hx) hrt' q hi'
            · have := (a5 t' ht' hrt').2.2.1 i hi'
              rw [List.mem_singleton.mp q] at this; omega
        · rw [show upL hl (r x) (hl (r x) ++ [H]) t = hl t from if_neg e] at hi
          by_cases e' : t' = r x
          · rw [e', show upL hl (r x) (hl (r x) ++ [H]) (r x) = hl (r x) ++ [H] from if_pos rfl] at hi'
            rcases List.mem_append.mp hi' with q | q
            · rw [e']; exact a6 t (r x) i ht hrx hrt (hT.rr hR hx) hi q
            · have := (a5 t ht hrt).2.2.1 i hi
              rw [List.mem_singleton.mp q] at this; omega
          · rw [show upL hl (r x) (hl (r x) ++ [H]) t' = hl t' from if_neg e'] at hi'
            exact a6 t t' i ht ht' hrt hrt' hi hi'
    cases hlx : hl (r x) with
    | nil =>
      rw [hlx] at b1
      rw [show rd s4 55 (r x) = i32 (-1) from b1, c2_ne (by omega) (by omega) (by omega) (by omega), c_f (by omega), c_in (by omega) (by omega) (by omega)]
      rw [hlx] at fin
      refine fin _ ((frW_wr rfl).trans ((frW_wr rfl).trans (frW_wr rfl))) ?_ ?_ ?_ ?_ ?_ ?_
      · rw [wr_nek (by decide), wr_nek (by decide), wr_self]
      · rw [wr_nek (by decide), wr_self]
      · intro i hi; rw [wr_nek (by decide), wr_nek (by decide), wr_nei hi]
      · intro t ht; rw [wr_nei ht, wr_nek (by decide), wr_nek (by decide)]
      · intro i _ hi; rw [wr_nek (by decide), wr_nei hi, wr_nek (by decide)]
      · rw [wr_self]; exact ⟨rfl, by rw [wr_nek (by decide), wr_self]; rfl⟩
    | cons i0 l0 =>
      have i0H : i0 < H := b3 i0 (by rw [hlx]; exact List.mem_cons_self)
      have e0 : rd s4 55 (r x) = i32 (i0 : Int) := by rw [hlx] at b1; exact b1.1
      obtain ⟨kl, hkl⟩ : ∃ k, (hl (r x)).getLast? = some k := by rw [hlx]; exact ⟨_, List.getLast?_cons⟩
      have hklm := List.mem_of_getLast? hkl
      have hklH := b3 kl hklm
      rw [e0, c2_ne (by omega) (by omega) (by omega) (by omega), c_t (by omega), e88_119]
      have l56' : ln (wr (wr s4 59 H (i32 (r u : Int))) 60 H (i32 (-1))) 56 = ln s4 56 := rfl
      have l60' : ln (wr (wr s4 59 H (i32 (r u : Int))) 60 H (i32 (-1))) 60 = ln s4 60 := rfl
      rw [l56', c_in (by omega) (by omega) (by omega), i32_ixn (by omega), wr_nek (by decide), wr_nek (by decide), b4 kl hkl, l60', c_in (by omega) (by omega) (by omega), i32_ixn (by omega), wr_nek (by decide), wr_nek (by decide), a1]
      rw [← hlx]
      refine fin _ ((frW_wr rfl).trans ((frW_wr rfl).trans (frW_wr rfl))) ?_ ?_ ?_ ?_ ?_ ?_
      · rw [wr_nek (by decide), wr_nek (by decide), wr_self]
      · rw [wr_nei (fun e => nH kl hklm e.symm), wr_self]
      · intro i hi; rw [wr_nek (by decide), wr_nek (by decide), wr_nei hi]
      · intro t ht; rw [wr_nek (by decide), wr_nek (by decide), wr_nek (by decide)]
      · intro i hi hi2; rw [wr_nei (fun e => hi (by rw [e]; exact hklm)), wr_nei hi2, wr_nek (by decide)]
      · rw [wr_nek (by decide), wr_nek (by decide), wr_nek (by decide)]
        have base : chL (wr (wr s4 59 H (i32 (r u : Int))) 60 H (i32 (-1))) (hl (r x)) (rd s4 55 (r x)) := b1.congr (fun i hi => by rw [wr_nei (nH i hi), wr_nek (by decide)])
        refine chL.app base b2 hkl ⟨rfl, ?_⟩ (fun i hi h => nH i hi (List.mem_singleton.mp h))
        rw [wr_self]; rfl
  have e11 : rd s3 50 11 = i32 (H : Int) := H3.1
  rw [e11, i32_nat, c2_ne (by omega) (by omega) (by omega) (by omega)]
  by_cases q : H = ln s3 59
  · rw [c_f (by omega)]
    have e2 : (2 : Int32) * i32 (H : Int) = i32 ((2 * ln s3 59 : Nat) : Int) := by rw [show (2 : Int32) = i32 2 from rfl, i32_mul, q]; congr 1
    obtain ⟨g1, g2, g3, g4⟩ := R3.grow (k := 59) (M := 212992) (by decide) (by omega) (by decide)
    have l60 : ln (gw s3 59 (2 * ln s3 59)) 60 = ln s3 59 := H3.2.2.1
    obtain ⟨g5, g6, g7, g8⟩ := g2.grow (k := 60) (M := 212992) (by decide) (by rw [l60]; omega) (by decide)
    rw [l60] at g5 g6
    have e11' : rd (gw s3 59 (2 * ln s3 59)) 50 11 = i32 (H : Int) := by rw [rd_gw, if_neg (by decide)]; exact e11
    rw [e2, g1, cond_true, i32_ixn (by omega), e88_55, e11', e2, g5, cond_true, i32_ixn (by omega)]
    have w4 : frT [59, 60] [59, 60] [] s3 (gw (gw s3 59 (2 * ln s3 59)) 60 (2 * ln s3 59)) := ⟨(frG_gw rfl rfl).trans (frG_gw rfl rfl), fun i _ => by rw [rd_gw, if_neg (by decide), rd_gw, if_neg (by decide)]⟩
    have T4 := T3.T w4 rfl ⟨rfl, rfl, rfl, rfl⟩ (fun j h1 h2 => by
      have : j = 51 ∨ j = 52 ∨ j = 53 ∨ j = 54 ∨ j = 55 ∨ j = 56 ∨ j = 57 ∨ j = 58 := by omega
      rcases this with h | h | h | h | h | h | h | h <;> subst h <;> rfl)
    have r59 : ∀ i, i < H → rd (gw (gw s3 59 (2 * ln s3 59)) 60 (2 * ln s3 59)) 59 i = rd s3 59 i := fun i hi => by
      rw [rd_gw, if_neg (by decide), rd_gw, if_pos rfl, if_pos (by omega)]
    have r60 : ∀ i, i < H → rd (gw (gw s3 59 (2 * ln s3 59)) 60 (2 * ln s3 59)) 60 i = rd s3 60 i := fun i hi => by
      rw [rd_gw, if_pos rfl, if_pos (by rw [l60]; omega), rd_gw, if_neg (by decide)]
    have H4 : HO N r hl hv H (gw (gw s3 59 (2 * ln s3 59)) 60 (2 * ln s3 59)) := by
      obtain ⟨a1, a2, a3, a4, a5, a6⟩ := H3
      refine ⟨by rw [w4.2 11 rfl]; exact a1, by rw [show ln (gw (gw s3 59 (2 * ln s3 59)) 60 (2 * ln s3 59)) 59 = 2 * ln s3 59 from rfl]; omega, rfl, fun i hi => by rw [r59 i hi]; exact a4 i hi, fun t ht hrt => ?_, a6⟩
      obtain ⟨d1, d2, d3, d4⟩ := a5 t ht hrt
      rw [w4.rd (j := 55) rfl, w4.rd (j := 56) rfl]
      exact ⟨d1.congr (fun i hi => r60 i (d3 i hi)), d2, d3, d4⟩
    obtain ⟨σ', k1, k2, k3, k4, k5⟩ := key _ (dj (.int (i32 x))) T4 H4 g6 (((w13.T [] [] rfl).sub rfl rfl rfl).trans (w4.sub rfl rfl rfl)) (by rw [show ln (gw (gw s3 59 (2 * ln s3 59)) 60 (2 * ln s3 59)) 59 = 2 * ln s3 59 from rfl]; omega)
    exact ⟨σ', k1, k2, k3, k4, k5, q1, q2⟩
  · rw [c_t (by omega)]
    obtain ⟨σ', k1, k2, k3, k4, k5⟩ := key s3 (.int (i32 x)) T3 H3 R3 ((w13.T [] [] rfl).sub rfl rfl rfl) (by have := H3.2.1; omega)
    exact ⟨σ', k1, k2, k3, k4, k5, q1, q2⟩
end HLC
