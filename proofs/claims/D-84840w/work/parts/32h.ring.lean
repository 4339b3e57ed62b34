/-! TYPES OF THE COMPONENT: is there a ring? -/
section RND2
variable {L : Nat} {xs : Nat → Int32} {σ σ' : tvS}
def FRN : List Nat := [52, 57, 61]
/-- in the midst of the search -/
def rI (N : Nat) (G : tG) (r : Nat → Nat) (S x : Nat) (Q : Nat → Prop) (dp : Nat → Nat) (c : Nat) (W : List Int) (σ : tvS) : Prop :=
  STP N S σ ∧ (∀ e, e ∈ W → (∃ n : Nat, n < N ∧ e = n) ∨ (∃ t : Nat, t < N ∧ e = -1 - (t : Int) ∧ r t = t ∧ 2 ≤ G.1 t ∧ rd σ 57 t = i32 ((S : Int) - 1))) ∧
  (∀ t : Nat, t < N → rd σ 57 t = i32 ((S : Int) - 1) → (-1 - (t : Int)) ∈ W) ∧ rN W ∧ rK G r Q [] W ∧ (∀ dd, dOK G r dd → rD dd W) ∧ rC N G r Q dp c ∧ (∀ t, Q t ↔ t < N ∧ rd σ 57 t = i32 (S : Int)) ∧ rP G r Q W x
theorem rP_drop {G : tG} {r : Nat → Nat} {Q : Nat → Prop} {e : Nat} {A : List Int} {y : Nat} (h : G.1 (r e) < 2 ∨ Q (r e)) (q : rP G r Q ((e : Int) :: A) y) : rP G r Q A y := by
  rcases q with a | a | ⟨u, a, b⟩ | a
  · exact .inl a
  · exact .inr (.inl a)
  · rcases List.mem_cons.mp a with a | a
    · have : u = e := by omega
      subst this
      rw [b] at h
      exact h.elim .inl (fun h => .inr (.inl h))
    · exact .inr (.inr (.inl ⟨u, a, b⟩))
  · rcases List.mem_cons.mp a with a | a
    · exact absurd a (by omega)
    · exact .inr (.inr (.inr a))
theorem rI.fr {N : Nat} {G : tG} {r : Nat → Nat} {S x : Nat} {Q : Nat → Prop} {dp : Nat → Nat} {c : Nat} {W : List Int} {S' T F : List Nat} (h : rI N G r S x Q dp c W σ) (g : frT S' T F σ σ') (hF : inL F 12 = false) (hS : inL S' 57 = false) : rI N G r S x Q dp c W σ' := by
  obtain ⟨a1, a2, a3, a4, a5, a6, a7, a8, a9⟩ := h
  have e := g.rd (j := 57) hS
  exact ⟨a1.T g hF hS, fun u hu => by simpa only [e] using a2 u hu, fun t ht q => a3 t ht (by rw [← e]; exact q), a4, a5, a6, a7, fun t => by rw [e]; exact a8 t, a9⟩
theorem rK_app {G : tG} {r : Nat → Nat} {Q : Nat → Prop} : ∀ (l : List Nat) {A W : List Int}, rK G r Q ((ints l).reverse ++ A) W → rK G r Q A (ints l ++ W) := by
  intro l
  induction l with
  | nil => intro A W h; exact h
  | cons y l ih =>
    intro A W h
    refine ⟨fun t ht => absurd (show (y : Int) = -1 - (t : Int) from ht) (by omega), ih ?_⟩
    have : (ints (y :: l)).reverse ++ A = (ints l).reverse ++ ((y : Int) :: A) := by
      show ((y : Int) :: ints l).reverse ++ A = _
      rw [List.reverse_cons, List.append_assoc]; rfl
    rw [this] at h; exact h
theorem mk_ints {l : List Nat} {W : List Int} {m : Nat} : (-1 - (m : Int)) ∈ ints l ++ W → (-1 - (m : Int)) ∈ W := by
  intro h
  rcases List.mem_append.mp h with h | h
  · obtain ⟨y, _, e⟩ := List.mem_map.mp h
    exact absurd e (by omega)
  · exact h
theorem rD_app {dd : Nat → Nat} : ∀ (l : List Nat) {W : List Int}, (∀ y, y ∈ l → ∀ m : Nat, (-1 - (m : Int)) ∈ W → dd y < dd m) → rD dd W → rD dd (ints l ++ W) := by
  intro l
  induction l with
  | nil => intro W _ h; exact h
  | cons y l ih =>
    intro W h g
    refine ⟨fun m hm => ⟨fun n hn => ?_, fun n hn => absurd (show (y : Int) = -1 - (n : Int) from hn) (by omega)⟩, ih (fun z hz => h z (List.mem_cons_of_mem _ hz)) g⟩
    have : n = y := by have hn : (y : Int) = (n : Int) := hn; omega
    rw [this]; exact h y List.mem_cons_self m (mk_ints hm)
theorem rN_app : ∀ (l : List Nat) {W : List Int}, rN W → rN (ints l ++ W) := by
  intro l
  induction l with
  | nil => intro W h; exact h
  | cons y l ih => intro W h; exact ⟨fun q => absurd (show (y : Int) < 0 from q) (by omega), ih h⟩
theorem rnd_loop {K1 K2 N : Nat} {G : tG} {r : Nat → Nat} {S x : Nat} (hB : gB G r) (hS : 2 ≤ S) (hS2 : S < 2147483648) (d : Nat) : ∀ (n : Nat) (W : List Int) (σ : tvS) (Q : Nat → Prop) (dp : Nat → Nat) (c : Nat) (v2 : Value),
    TC N G r σ → ROOM K1 K2 σ → WK W σ → rI N G r S x Q dp c W σ → W.length + 2 * ct (fun y => ¬ (rd σ 57 y = i32 ((S : Int) - 1) ∨ rd σ 57 y = i32 (S : Int))) N ≤ 2 * N + 1 → W.length + 3 * ct (fun y => ¬ (rd σ 57 y = i32 ((S : Int) - 1) ∨ rd σ 57 y = i32 (S : Int))) N ≤ n →
    (∃ σ', (∀ v1, rn L xs (d + 3) 96 24 [.ref 50, v1, v2] [] σ = some (.inl (some (.int 1)), σ')) ∧ ¬ gAc G (gRt r) ∧ ROOM K1 K2 σ' ∧ frT FRN [61] [14] σ σ') ∨
    (∃ σ' Q' dp' c', (∀ v1, rn L xs (d + 3) 96 24 [.ref 50, v1, v2] [] σ = some (.inl (some (.int 0)), σ')) ∧ TC N G r σ' ∧ ROOM K1 K2 σ' ∧ STP N S σ' ∧ rC N G r Q' dp' c' ∧ (G.1 (r x) < 2 ∨ Q' (r x)) ∧ frT FRN [61] [14] σ σ') := by
  intro n
  induction n with
  | zero =>
    intro W σ Q dp c v2 hT hR hW hI hm hn
    have : W = [] := List.eq_nil_of_length_eq_zero (by omega)
    subst this
    refine .inr ⟨σ, Q, dp, c, fun v1 => ?_, hT, hR, hI.1, hI.2.2.2.2.2.2.1, ?_, frT.refl⟩
    · rw [e96_24, hW.1, c1_le (by show -2147483648 ≤ ((0 : Nat) : Int); omega) (by show ((0 : Nat) : Int) < _; omega), c_t (by show ((0 : Nat) : Int) ≤ 0; omega), e96_131]
    · rcases hI.2.2.2.2.2.2.2.2 with a | a | ⟨u, a, _⟩ | a
      · exact .inl a
      · exact .inr a
      · cases a
      · cases a
  | succ n ih =>
    intro W σ Q dp c v2 hT hR hW hI hm hn
    cases W with
    | nil =>
      refine .inr ⟨σ, Q, dp, c, fun v1 => ?_, hT, hR, hI.1, hI.2.2.2.2.2.2.1, ?_, frT.refl⟩
      · rw [e96_24, hW.1, c1_le (by show -2147483648 ≤ ((0 : Nat) : Int); omega) (by show ((0 : Nat) : Int) < _; omega), c_t (by show ((0 : Nat) : Int) ≤ 0; omega), e96_131]
      · rcases hI.2.2.2.2.2.2.2.2 with a | a | ⟨u, a, _⟩ | a
        · exact .inl a
        · exact .inr a
        · cases a
        · cases a
    | cons e W =>
      have hN := hT.lt hR
      have hm' : W.length + 1 + 2 * ct (fun y => ¬ (rd σ 57 y = i32 ((S : Int) - 1) ∨ rd σ 57 y = i32 (S : Int))) N ≤ 2 * N + 1 := hm
      have hn' : W.length + 1 + 3 * ct (fun y => ¬ (rd σ 57 y = i32 ((S : Int) - 1) ∨ rd σ 57 y = i32 (S : Int))) N ≤ n + 1 := hn
      have lW : ∀ s : tvS, ROOM K1 K2 s → ln s 61 ≤ 1000000 := fun s h => Nat.le_trans (h.le (k := 61) (M := 524288) (by decide)) (by omega)
      obtain ⟨p1, q1⟩ := pop_c (L := L) (xs := xs) hW (lW _ hR) (d + 1)
      have w1 : frT [] [] [14] σ (wr σ 50 14 (i32 (W.length : Int))) := frT_w50 rfl
      have T1 := hT.T w1 rfl ⟨rfl, rfl, rfl, rfl⟩ (fun _ _ _ => rfl)
      have R1 : ROOM K1 K2 (wr σ 50 14 (i32 (W.length : Int))) := hR.wr
      have I1 := hI.fr w1 rfl rfl
      have c57 : ∀ y, rd (wr σ 50 14 (i32 (W.length : Int))) 57 y = rd σ 57 y := fun y => wr_nek (by decide)
      generalize hs1 : wr σ 50 14 (i32 (W.length : Int)) = s1 at *
      have start : ∀ v1, rn L xs (d + 3) 96 24 [.ref 50, v1, v2] [] σ = cond (pv_c1 .ge (i32 e)) (rn L xs (d + 3) 96 55 [.ref 50, jk (dj v1), .int (i32 e)] [] s1) (cond (pv_in (i32 (-1) - i32 e) (ln s1 57)) (rn L xs (d + 3) 96 24 [.ref 50, jk (dj v1), .int (i32 e)] [] (wr s1 57 (ix (i32 (-1) - i32 e)) (rd s1 50 12))) none) := by
        intro v1
        rw [e96_24 (d + 2), hW.1, c1_le (by omega) (by show ((W.length + 1 : Nat) : Int) < _; omega), c_f (by show ¬ ((W.length + 1 : Nat) : Int) ≤ 0; omega), bI_ok p1, i32_raw]
      obtain ⟨a1, a2, a3, a4, a5, a6, a7, a8, a9⟩ := I1
      obtain ⟨b1, b2, b3, b4, b5, b6, b7, b8⟩ := id T1
      have l57 : N ≤ ln s1 57 ∧ ln s1 57 ≤ 1000000 := by
        rw [b4 57 (by omega) (by omega)]; exact ⟨b3, Nat.le_trans (R1.le (k := 51) (M := 122880) (by decide)) (by omega)⟩
      have l51 : N ≤ ln s1 51 ∧ ln s1 51 ≤ 1000000 := ⟨b3, Nat.le_trans (R1.le (k := 51) (M := 122880) (by decide)) (by omega)⟩
      have fr1 : frT FRN [61] [14] σ s1 := w1.sub rfl rfl rfl
      rcases a2 e List.mem_cons_self with ⟨z, hz, he⟩ | ⟨t, ht, he, hrt, hk, hst⟩
      · -- one to come
        subst he
        have hrz : r z < N := T1.rlt hz
        obtain ⟨s2, f1, T2, R2, w2⟩ := find_C (L := L) (xs := xs) T1 R1 hz (d + 1) jv jv jv
        have I2 : rI N G r S x Q dp c ((z : Int) :: W) s2 := rI.fr (σ := s1) ⟨a1, a2, a3, a4, a5, a6, a7, a8, a9⟩ (w2.T [] [] rfl) rfl rfl
        have q2 := q1.fr w2 rfl rfl
        have c2' : ∀ y, rd s2 57 y = rd σ 57 y := fun y => (w2.1 57 rfl y).trans (c57 y)
        have fr2 : frT FRN [61] [14] σ s2 := fr1.trans ((w2.T [] [] rfl).sub rfl rfl rfl)
        have l57' := w2.ln 57
        have l51' := w2.ln 51
        obtain ⟨st, hst, est⟩ := I2.1.2 (r z) hrz
        have s55 : ∀ v1, rn L xs (d + 3) 96 24 [.ref 50, v1, v2] [] σ = cond (pv_c2 .ne (i32 (st : Int)) (i32 ((S : Int) - 1))) (rn L xs (d + 3) 96 78 [.ref 50, jk (dj (jk (dj v1))), .int (i32 (r z : Int))] [] s2) (some (.inl (some (.int 1)), s2)) := by
          intro v1
          rw [start v1, c1_ge (by omega) (by omega), c_t (by omega), e96_55 (d + 2), bI_ok f1, l57', c_in (by omega) (by omega) (by omega), i32_ixn (by omega), est, I2.1.1, show (1 : Int32) = i32 1 from rfl, i32_sub]
        have loop : (G.1 (r z) < 2 ∨ Q (r z)) → rI N G r S x Q dp c W s2 := by
          intro hq
          obtain ⟨a1, a2, a3, a4, a5, a6, a7, a8, a9⟩ := I2
          refine ⟨a1, fun e he => a2 e (List.mem_cons_of_mem _ he), fun t ht q => ?_, a4.2, a5.2.mono (fun y hy => rP_drop hq hy), fun dd h => (a6 dd h).2, a7, a8, rP_drop hq a9⟩
          rcases List.mem_cons.mp (a3 t ht q) with h | h
          · exact absurd h (by omega)
          · exact h
        have ctE : ct (fun y => ¬ (rd s2 57 y = i32 ((S : Int) - 1) ∨ rd s2 57 y = i32 (S : Int))) N = ct (fun y => ¬ (rd σ 57 y = i32 ((S : Int) - 1) ∨ rd σ 57 y = i32 (S : Int))) N := ct_congr N (fun y _ => by rw [c2' y])
        have goL : (G.1 (r z) < 2 ∨ Q (r z)) → (∀ v1, rn L xs (d + 3) 96 24 [.ref 50, v1, v2] [] σ = rn L xs (d + 3) 96 24 [.ref 50, jk (dj (jk (dj v1))), .int (i32 (r z : Int))] [] s2) → _ := fun hq hgo => ih W s2 Q dp c (.int (i32 (r z : Int))) T2 R2 q2 (loop hq) (by rw [ctE]; omega) (by rw [ctE]; omega)
        by_cases h1 : (st : Int) = (S : Int) - 1
        · -- it is opn: a ring
          refine .inl ⟨s2, fun v1 => ?_, ?_, R2, fr2⟩
          · rw [s55 v1, c2_ne (by omega) (by omega) (by omega) (by omega), c_f (by omega)]
          · rintro ⟨dd, D, _, hd, hk⟩
            have hm := I2.2.2.1 (r z) hrz (by rw [est, h1])
            have hm2 : (-1 - ((r z : Nat) : Int)) ∈ W := by
              rcases List.mem_cons.mp hm with h | h
              · exact absurd h (by omega)
              · exact h
            have := ((I2.2.2.2.2.2.1 dd ⟨hd, hk⟩).1 (r z) hm2).1 z rfl
            have := hd z (r z) (hB.1 z).symm
            omega
        · by_cases h2 : st = S
          · have hq : Q (r z) := (I2.2.2.2.2.2.2.2.1 (r z)).mpr ⟨hrz, by rw [est, h2]⟩
            have hgo : ∀ v1, rn L xs (d + 3) 96 24 [.ref 50, v1, v2] [] σ = rn L xs (d + 3) 96 24 [.ref 50, jk (dj (jk (dj v1))), .int (i32 (r z : Int))] [] s2 := by
              intro v1
              rw [s55 v1, c2_ne (by omega) (by omega) (by omega) (by omega), c_t (by omega), e96_78 (d + 2), l57', c_in (by omega) (by omega) (by omega), i32_ixn (by omega), est, I2.1.1, h2, c2_refl]
            rcases goL (.inr hq) hgo with ⟨σ', i1, i2, i3, i4⟩ | ⟨σ', Q', dp', c', i1, i2, i3, i4, i5, i6, i7⟩
            · exact .inl ⟨σ', fun v1 => (hgo v1).trans (i1 _), i2, i3, fr2.trans i4⟩
            · exact .inr ⟨σ', Q', dp', c', fun v1 => (hgo v1).trans (i1 _), i2, i3, i4, i5, i6, fr2.trans i7⟩
          · obtain ⟨k1, k2, k3⟩ := T2.2.2.2.2.2.2.1 (r z) hrz
            have s78 : ∀ v1, rn L xs (d + 3) 96 24 [.ref 50, v1, v2] [] σ = cond (decide ((2 : Int) ≤ (G.1 (r z) : Int))) (rn L xs (d + 3) 96 104 [.ref 50, jk (dj (jk (dj v1))), .int (i32 (r z : Int))] [] s2) (rn L xs (d + 3) 96 24 [.ref 50, jk (dj (jk (dj v1))), .int (i32 (r z : Int))] [] s2) := by
              intro v1
              rw [s55 v1, c2_ne (by omega) (by omega) (by omega) (by omega), c_t (by omega), e96_78 (d + 2), l57', c_in (by omega) (by omega) (by omega), i32_ixn (by omega), est, I2.1.1, c2_eq (by omega) (by omega) (by omega) (by omega), c_f (by omega), l51', c_in (by omega) (by omega) (by omega), k1, show (2 : Int32) = i32 2 from rfl, c2_ge (by omega) (by omega) (by omega) (by omega)]
            by_cases h3 : G.1 (r z) < 2
            · have hgo : ∀ v1, rn L xs (d + 3) 96 24 [.ref 50, v1, v2] [] σ = rn L xs (d + 3) 96 24 [.ref 50, jk (dj (jk (dj v1))), .int (i32 (r z : Int))] [] s2 := fun v1 => by rw [s78 v1, c_f (by omega)]
              rcases goL (.inl h3) hgo with ⟨σ', i1, i2, i3, i4⟩ | ⟨σ', Q', dp', c', i1, i2, i3, i4, i5, i6, i7⟩
              · exact .inl ⟨σ', fun v1 => (hgo v1).trans (i1 _), i2, i3, fr2.trans i4⟩
              · exact .inr ⟨σ', Q', dp', c', fun v1 => (hgo v1).trans (i1 _), i2, i3, i4, i5, i6, fr2.trans i7⟩
            · -- it is opened
              have hkz : 2 ≤ G.1 (r z) := by omega
              have w3 : frT [57] [] [] s2 (wr s2 57 (r z) (i32 ((S : Int) - 1))) := frT_wr rfl (by decide)
              have T3 := T2.T w3 rfl ⟨rfl, rfl, rfl, rfl⟩ (fun _ _ _ => rfl)
              have R3 : ROOM K1 K2 (wr s2 57 (r z) (i32 ((S : Int) - 1))) := R2.wr
              have q3 : WK W (wr s2 57 (r z) (i32 ((S : Int) - 1))) := q2.fr (S := [57]) (frW_wr rfl) rfl rfl
              obtain ⟨s4, p4, q4, R4, w4⟩ := push_T (L := L) (xs := xs) R3 q3 (by omega) (-1 - ((r z : Nat) : Int)) (d + 1)
              have T4 := T3.T w4 rfl ⟨rfl, rfl, rfl, rfl⟩ (fun j h1 h2 => n5158 h1 h2)
              obtain ⟨s5, p5, q5, R5, w5⟩ := parts_c (L := L) (xs := xs) T4 R4 q4 (by show W.length + 1 + 2 < _; omega) hrz hkz d
              have T5 := T4.T w5 rfl ⟨rfl, rfl, rfl, rfl⟩ (fun j h1 h2 => n5158 h1 h2)
              have w35 : frT FRN [61] [14] s2 s5 := (w3.sub rfl rfl rfl).trans ((w4.trans w5).sub rfl rfl rfl)
              have c5 : ∀ y, rd s5 57 y = if y = r z then i32 ((S : Int) - 1) else rd σ 57 y := by
                intro y
                rw [(w4.trans w5).rd (j := 57) rfl, rd_wr]
                by_cases q : y = r z
                · rw [if_pos ⟨rfl, q⟩, if_pos q]
                · rw [if_neg (fun h => q h.2), if_neg q, c2' y]
              have hgo : ∀ v1, rn L xs (d + 3) 96 24 [.ref 50, v1, v2] [] σ = rn L xs (d + 3) 96 24 [.ref 50, dj (dj (jk (dj (jk (dj v1))))), .int (i32 (r z : Int))] [] s5 := by
                intro v1
                rw [s78 v1, c_t (by omega), e96_104 (d + 2), l57', c_in (by omega) (by omega) (by omega), i32_ixn (by omega), I2.1.1, show (1 : Int32) = i32 1 from rfl, i32_sub, i32_raw, i32_sub, bV_ok p4, bV_ok p5]
              obtain ⟨a1, a2, a3, a4, a5, a6, a7, a8, a9⟩ := I2
              have ne1 : i32 ((S : Int) - 1) ≠ i32 (S : Int) := fun q => by have := (i32_inj (by omega) (by omega) (by omega) (by omega)).mp q; omega
              have nst1 : rd σ 57 (r z) ≠ i32 ((S : Int) - 1) := fun q => by rw [← c2', est] at q; have := (i32_inj (by omega) (by omega) (by omega) (by omega)).mp q; omega
              have nst2 : rd σ 57 (r z) ≠ i32 (S : Int) := fun q => by rw [← c2', est] at q; have := (i32_inj (by omega) (by omega) (by omega) (by omega)).mp q; omega
              have nW : (-1 - ((r z : Nat) : Int)) ∉ W := by
                intro hm
                rcases a2 _ (List.mem_cons_of_mem _ hm) with ⟨u, _, e⟩ | ⟨u, _, e, _, _, e2⟩
                · omega
                · have : u = r z := by omega
                  rw [this, c2'] at e2; exact nst1 e2
              have repl : ∀ (A : List Int) y, (-1 - ((r z : Nat) : Int)) ∈ A → (∀ e : Nat, (e : Int) ∈ W → (e : Int) ∈ A) → (∀ e : Nat, (-1 - (e : Int)) ∈ W → (-1 - (e : Int)) ∈ A) → rP G r Q ((z : Int) :: W) y → rP G r Q A y := by
                intro A y hA h1 h2 q
                rcases q with a | a | ⟨u, a, b⟩ | a
                · exact .inl a
                · exact .inr (.inl a)
                · rcases List.mem_cons.mp a with a | a
                  · have : u = z := by omega
                    rw [this] at b; rw [b] at hA
                    exact .inr (.inr (.inr hA))
                  · exact .inr (.inr (.inl ⟨u, h1 u a, b⟩))
                · rcases List.mem_cons.mp a with a | a
                  · exact absurd a (by omega)
                  · exact .inr (.inr (.inr (h2 _ a)))
              have I5 : rI N G r S x Q dp c (ints (kids G (r z)) ++ (-1 - ((r z : Nat) : Int)) :: W) s5 := by
                refine ⟨⟨?_, fun y hy => ?_⟩, fun e he => ?_, fun t ht q => ?_, rN_app _ ⟨fun _ => nW, a4.2⟩, rK_app _ ⟨fun t ht y hy => ?_, ?_⟩, fun dd hdd => ?_, a7, fun t => ?_, ?_⟩
                · rw [(w4.trans w5).2 12 rfl, wr_nek (by decide)]; exact a1.1
                · rw [c5 y]
                  by_cases q : y = r z
                  · rw [if_pos q]; exact ⟨S - 1, by omega, by congr 1; omega⟩
                  · rw [if_neg q, ← c2']; exact a1.2 y hy
                · rcases List.mem_append.mp he with he | he
                  · obtain ⟨y, hy, e⟩ := List.mem_map.mp he
                    exact .inl ⟨y, kids_lt T2 hrz hkz hy, e.symm⟩
                  · rcases List.mem_cons.mp he with he | he
                    · exact .inr ⟨r z, hrz, he, hB.1 z, hkz, by rw [c5, if_pos rfl]⟩
                    · rcases a2 e (List.mem_cons_of_mem _ he) with h | ⟨t, h1, h2, h3, h4, h5⟩
                      · exact .inl h
                      · refine .inr ⟨t, h1, h2, h3, h4, ?_⟩
                        rw [c5, if_neg (fun q => nW (by rw [← q, ← h2]; exact he)), ← c2']; exact h5
                · rw [c5 t] at q
                  by_cases e : t = r z
                  · rw [e]; exact List.mem_append_right _ List.mem_cons_self
                  · rw [if_neg e, ← c2'] at q
                    rcases List.mem_cons.mp (a3 t ht q) with h | h
                    · exact absurd h (by omega)
                    · exact List.mem_append_right _ (List.mem_cons_of_mem _ h)
                · have : t = r z := by omega
                  subst this
                  refine .inr (.inr (.inl ⟨y, ?_, rfl⟩))
                  rw [List.append_nil]
                  exact List.mem_reverse.mpr (List.mem_map_of_mem (f := fun n : Nat => (n : Int)) hy)
                · refine a5.2.mono (fun y hy => ?_)
                  rcases hy with a | a | ⟨u, a, b⟩ | a
                  · exact .inl a
                  · exact .inr (.inl a)
                  · have : u = z := by have := List.mem_singleton.mp a; omega
                    rw [this] at b
                    exact .inr (.inr (.inr (by rw [b]; exact List.mem_cons_self)))
                  · have := List.mem_singleton.mp a; omega
                · have h6 := a6 dd hdd
                  have ez : dd (r z) = dd z := hdd.1 _ _ (hB.1 z)
                  refine rD_app _ (fun y hy m hm => ?_) ⟨fun m hm => ⟨fun n hn => absurd hn (by omega), fun n hn => ?_⟩, h6.2⟩
                  · have k1 := hdd.kid hkz hy
                    rcases List.mem_cons.mp hm with hm | hm
                    · have : m = r z := by omega
                      rw [this]; exact k1
                    · have := (h6.1 m hm).1 z rfl
                      omega
                  · have : n = r z := by omega
                    rw [this, ez]; exact (h6.1 m hm).1 z rfl
                · rw [c5 t]
                  by_cases e : t = r z
                  · rw [if_pos e]
                    constructor
                    · intro q; rw [e] at q; exact absurd ((a8 _).mp q).2 (by rw [c2']; exact nst2)
                    · intro q; exact absurd q.2 ne1
                  · rw [if_neg e, ← c2']; exact a8 t
                · exact repl _ x (List.mem_append_right _ List.mem_cons_self) (fun e he => List.mem_append_right _ (List.mem_cons_of_mem _ he)) (fun e he => List.mem_append_right _ (List.mem_cons_of_mem _ he)) a9
              have hct : ct (fun y => ¬ (rd s5 57 y = i32 ((S : Int) - 1) ∨ rd s5 57 y = i32 (S : Int))) N + 1 = ct (fun y => ¬ (rd σ 57 y = i32 ((S : Int) - 1) ∨ rd σ 57 y = i32 (S : Int))) N := by
                refine ct_flip (p := fun y => ¬ (rd σ 57 y = i32 ((S : Int) - 1) ∨ rd σ 57 y = i32 (S : Int))) (q := fun y => ¬ (rd s5 57 y = i32 ((S : Int) - 1) ∨ rd s5 57 y = i32 (S : Int))) (a := r z) ?_ ?_ N hrz ?_
                · exact fun q => q.elim nst1 nst2
                · exact fun q => q (.inl (by rw [c5, if_pos rfl]))
                · intro y _ hy
                  rw [c5 y, if_neg hy]
              have hlen : (ints (kids G (r z)) ++ (-1 - ((r z : Nat) : Int)) :: W).length ≤ W.length + 3 := by
                rw [List.length_append]
                have : (ints (kids G (r z))).length ≤ 2 := by unfold ints; rw [List.length_map]; exact kids_len
                show _ + (W.length + 1) ≤ _
                omega
              rcases ih _ s5 Q dp c (.int (i32 (r z : Int))) T5 R5 q5 I5 (by omega) (by omega) with ⟨σ', i1, i2, i3, i4⟩ | ⟨σ', Q', dp', c', i1, i2, i3, i4, i5, i6, i7⟩
              · exact .inl ⟨σ', fun v1 => (hgo v1).trans (i1 _), i2, i3, fr2.trans (w35.trans i4)⟩
              · exact .inr ⟨σ', Q', dp', c', fun v1 => (hgo v1).trans (i1 _), i2, i3, i4, i5, i6, fr2.trans (w35.trans i7)⟩
      · -- a mark: closed
        subst he
        have ei : i32 (-1) - i32 (-1 - (t : Int)) = i32 (t : Int) := by rw [i32_sub]; congr 1; omega
        have hgo : ∀ v1, rn L xs (d + 3) 96 24 [.ref 50, v1, v2] [] σ = rn L xs (d + 3) 96 24 [.ref 50, jk (dj v1), .int (i32 (-1 - (t : Int)))] [] (wr s1 57 t (i32 (S : Int))) := by
          intro v1
          rw [start v1, c1_ge (by omega) (by omega), c_f (by omega), ei, c_in (by omega) (by omega) (by omega), i32_ixn (by omega), a1.1]
        have w3 : frT [57] [] [] s1 (wr s1 57 t (i32 (S : Int))) := frT_wr rfl (by decide)
        have T3 := T1.T w3 rfl ⟨rfl, rfl, rfl, rfl⟩ (fun _ _ _ => rfl)
        have q3 : WK W (wr s1 57 t (i32 (S : Int))) := q1.fr (S := [57]) (frW_wr rfl) rfl rfl
        have c5 : ∀ y, rd (wr s1 57 t (i32 (S : Int))) 57 y = if y = t then i32 (S : Int) else rd s1 57 y := by
          intro y
          rw [rd_wr]
          by_cases q : y = t
          · rw [if_pos ⟨rfl, q⟩, if_pos q]
          · rw [if_neg (fun h => q h.2), if_neg q]
        have ne1 : i32 ((S : Int) - 1) ≠ i32 (S : Int) := fun q => by have := (i32_inj (by omega) (by omega) (by omega) (by omega)).mp q; omega
        have nW : (-1 - (t : Int)) ∉ W := a4.1 (by omega)
        have nQ : ¬ Q t := fun q => ne1 (by rw [← hst]; exact ((a8 t).mp q).2)
        have conv : ∀ (A : List Int) y, rP G r Q ((-1 - (t : Int)) :: A) y → rP G r (fun y => Q y ∨ y = t) A y := by
          rintro A y (a | a | ⟨u, a, b⟩ | a)
          · exact .inl a
          · exact .inr (.inl (.inl a))
          · rcases List.mem_cons.mp a with a | a
            · exact absurd a (by omega)
            · exact .inr (.inr (.inl ⟨u, a, b⟩))
          · rcases List.mem_cons.mp a with a | a
            · exact .inr (.inl (.inr (by omega)))
            · exact .inr (.inr (.inr a))
        have I3 : rI N G r S x (fun y => Q y ∨ y = t) (fun y => if y = t then c + 1 else dp y) (c + 1) W (wr s1 57 t (i32 (S : Int))) := by
          refine ⟨⟨?_, fun y hy => ?_⟩, fun e he => ?_, fun t' ht' q => ?_, a4.2, a5.2.mono (fun y hy => conv [] y hy), fun dd hdd => (a6 dd hdd).2, fun y hy => ?_, fun t' => ?_, conv W x a9⟩
          · rw [wr_nek (by decide)]; exact a1.1
          · rw [c5 y]
            by_cases q : y = t
            · rw [if_pos q]; exact ⟨S, Nat.le_refl _, rfl⟩
            · rw [if_neg q]; exact a1.2 y hy
          · rcases a2 e (List.mem_cons_of_mem _ he) with h | ⟨t', h1, h2, h3, h4, h5⟩
            · exact .inl h
            · refine .inr ⟨t', h1, h2, h3, h4, ?_⟩
              rw [c5, if_neg (fun q => nW (by rw [← q, ← h2]; exact he))]; exact h5
          · rw [c5 t'] at q
            by_cases e : t' = t
            · rw [if_pos e] at q; exact absurd q.symm ne1
            · rw [if_neg e] at q
              rcases List.mem_cons.mp (a3 t' ht' q) with h | h
              · exact absurd h (by omega)
              · exact h
          · by_cases e : y = t
            · subst e
              refine ⟨ht, hk, hrt, by show 0 < (if y = y then c + 1 else dp y); rw [if_pos rfl]; omega, by show (if y = y then c + 1 else dp y) ≤ c + 1; rw [if_pos rfl]; exact Nat.le_refl _, fun u hu => ?_⟩
              rcases a5.1 y rfl u hu with a | a | ⟨v, a, _⟩ | a
              · exact .inl a
              · have := a7 (r u) a
                have ne : r u ≠ y := fun q => nQ (q ▸ a)
                refine .inr ⟨.inl a, ?_⟩
                show (if r u = y then c + 1 else dp (r u)) < (if y = y then c + 1 else dp y)
                rw [if_neg ne, if_pos rfl]; omega
              · cases a
              · cases a
            · have hq : Q y := hy.elim id (fun q => absurd q e)
              obtain ⟨h1, h2, h3, h4, h5, h6⟩ := a7 y hq
              refine ⟨h1, h2, h3, by show 0 < (if y = t then c + 1 else dp y); rw [if_neg e]; exact h4, by show (if y = t then c + 1 else dp y) ≤ c + 1; rw [if_neg e]; omega, fun u hu => ?_⟩
              rcases h6 u hu with a | ⟨a, b⟩
              · exact .inl a
              · have ne : r u ≠ t := fun q => nQ (q ▸ a)
                refine .inr ⟨.inl a, ?_⟩
                show (if r u = t then c + 1 else dp (r u)) < (if y = t then c + 1 else dp y)
                rw [if_neg ne, if_neg e]; exact b
          · rw [c5 t']
            by_cases e : t' = t
            · rw [if_pos e]; exact ⟨fun _ => ⟨by omega, rfl⟩, fun _ => .inr e⟩
            · rw [if_neg e]; exact ⟨fun q => (a8 t').mp (q.elim id (fun q => absurd q e)), fun q => .inl ((a8 t').mpr q)⟩
        have ctE : ct (fun y => ¬ (rd (wr s1 57 t (i32 (S : Int))) 57 y = i32 ((S : Int) - 1) ∨ rd (wr s1 57 t (i32 (S : Int))) 57 y = i32 (S : Int))) N = ct (fun y => ¬ (rd σ 57 y = i32 ((S : Int) - 1) ∨ rd σ 57 y = i32 (S : Int))) N := by
          refine ct_congr N (fun y _ => ?_)
          rw [c5 y]
          by_cases e : y = t
          · rw [if_pos e, e, ← c57, hst]
            exact ⟨fun q => absurd (.inr rfl) q, fun q => absurd (.inl rfl) q⟩
          · rw [if_neg e, c57]
        have fr3 : frT FRN [61] [14] σ (wr s1 57 t (i32 (S : Int))) := fr1.trans (w3.sub rfl rfl rfl)
        rcases ih W _ _ _ _ (.int (i32 (-1 - (t : Int)))) T3 R1.wr q3 I3 (by rw [ctE]; omega) (by rw [ctE]; omega) with ⟨σ', i1, i2, i3, i4⟩ | ⟨σ', Q', dp', c', i1, i2, i3, i4, i5, i6, i7⟩
        · exact .inl ⟨σ', fun v1 => (hgo v1).trans (i1 _), i2, i3, fr3.trans i4⟩
        · exact .inr ⟨σ', Q', dp', c', fun v1 => (hgo v1).trans (i1 _), i2, i3, i4, i5, i6, fr3.trans i7⟩
end RND2
