/-! REGIONS, THE MODEL: reaching, with bits -/
section REACHBITS
variable {L : Nat} {xs : Nat → Int32} {σ σ' : tvS}
def bitL (x : Int64) (k : Nat) : Prop := x.toBitVec.getLsbD k = true
def mBt (k : Nat) : Int64 := (1 : Int64) <<< (((i32 ((k + 1 : Nat) : Int) - 1) - (i32 ((k + 1 : Nat) : Int) - 1) / 64 * 64).toInt64 &&& 63)
theorem mBt_all : ((List.range 60).all fun k => decide (mBt k = Int64.ofBitVec (BitVec.twoPow 64 k))) = true := by decide
theorem mBt_eq {k : Nat} (hk : k < 60) : mBt k = Int64.ofBitVec (BitVec.twoPow 64 k) := by
  have := List.all_eq_true.mp mBt_all k (List.mem_range.mpr hk)
  exact of_decide_eq_true this
theorem bit_or (x y : Int64) (j : Nat) : bitL (x ||| y) j ↔ bitL x j ∨ bitL y j := by
  unfold bitL
  rw [show (x ||| y).toBitVec = x.toBitVec ||| y.toBitVec from rfl, BitVec.getLsbD_or, Bool.or_eq_true]
theorem bit_set {k j : Nat} (hk : k < 60) (hj : j < 64) (x : Int64) : bitL (x ||| mBt k) j ↔ bitL x j ∨ j = k := by
  rw [bit_or, mBt_eq hk]
  unfold bitL
  rw [show (Int64.ofBitVec (BitVec.twoPow 64 k)).toBitVec = BitVec.twoPow 64 k from rfl, BitVec.getLsbD_twoPow]
  constructor
  · rintro (h | h)
    · exact .inl h
    · rw [Bool.and_eq_true, decide_eq_true_eq, decide_eq_true_eq] at h
      exact .inr h.2.symm
  · rintro (h | h)
    · exact .inl h
    · refine .inr ?_
      rw [Bool.and_eq_true, decide_eq_true_eq, decide_eq_true_eq]
      exact ⟨by omega, h.symm⟩
theorem bit_zero (j : Nat) : ¬ bitL 0 j := by
  unfold bitL
  rw [show (0 : Int64).toBitVec = 0#64 from rfl, BitVec.getLsbD_zero]
  exact Bool.false_ne_true
/-- in the midst of reaching: DL, those that are done with -/
def RMI (N : Nat) (G : tG) (r : Nat → Nat) (hl : Nat → List Nat) (hv : Nat → Nat) (H S : Nat) (RX : Nat → Prop) (DL W : List Nat) (σ : tvS) : Prop :=
  rwI N G r S W σ ∧ HM N r hl hv H σ ∧ (DL ++ W).Nodup ∧ (∀ y, y < N → (mkd S σ y ↔ y ∈ DL ∨ y ∈ W)) ∧ (∀ y, y ∈ DL ∨ y ∈ W → y < N ∧ r y = y ∧ RX y) ∧ (∀ t, t ∈ DL → 2 ≤ G.1 t → ∀ z, scs G hl hv t z → mkd S σ (r z))
def bxs (G : tG) (DL : List Nat) : List Nat := DL.filter (fun t => decide (2 ≤ G.1 t))
/-- what a row of bits is told: L1, which; a state without them is as good -/
def BWR (LB : tvS → (Nat → Prop) → Prop) (wb : tvS → Nat → tvS) (LS : List Nat) : Prop := (∀ σ B k, k < 60 → LB σ B → LB (wb σ k) (fun j => B j ∨ j = k)) ∧ (∀ σ σ' B, σ'.2.1 = σ.2.1 → LB σ B → LB σ' B) ∧ (∀ σ B B', (∀ j, j < 64 → (B j ↔ B' j)) → LB σ B → LB σ B') ∧ (∀ σ k, (wb σ k).1 = σ.1 ∧ (wb σ k).2.2 = σ.2.2) ∧ (∀ σ k, frX [169, 171, 176] [] LS σ (wb σ k))
theorem rd_of1 {a b : tvS} (h : a.1 = b.1) (j i : Nat) : rd a j i = rd b j i := by unfold rd; rw [h]
theorem rwI.i1 {N : Nat} {G : tG} {r : Nat → Nat} {S : Nat} {W : List Nat} {a b : tvS} (h : rwI N G r S W a) (e : b.1 = a.1) : rwI N G r S W b := by
  obtain ⟨b1, b2⟩ := b
  have e : b1 = a.1 := e
  subst e
  obtain ⟨h1, h2, h3, h4, h5⟩ := h
  exact ⟨h1, h2, h3.congr (fun _ _ => rfl), h4, h5⟩
theorem HM.i1 {N : Nat} {r : Nat → Nat} {hl : Nat → List Nat} {hv : Nat → Nat} {H : Nat} {a b : tvS} (h : HM N r hl hv H a) (e : b.1 = a.1) : HM N r hl hv H b := by
  obtain ⟨b1, b2⟩ := b
  have e : b1 = a.1 := e
  subst e
  obtain ⟨h1, h2, h3, h4, h5⟩ := h
  exact ⟨h1, h2, h3, fun t ht hr => ⟨(h4 t ht hr).1.congr (fun _ _ => rfl), (h4 t ht hr).2⟩, h5⟩
theorem RMI.ints {N : Nat} {G : tG} {r : Nat → Nat} {hl : Nat → List Nat} {hv : Nat → Nat} {H S : Nat} {RX : Nat → Prop} {DL W : List Nat} {a b : tvS} (h : RMI N G r hl hv H S RX DL W a) (e : b.1 = a.1) : RMI N G r hl hv H S RX DL W b := by
  obtain ⟨h1, h2, h3, h4, h5, h6⟩ := h
  have mk : ∀ y, mkd S b y ↔ mkd S a y := fun y => by unfold mkd; rw [rd_of1 e]
  exact ⟨h1.i1 e, h2.i1 e, h3, fun y hy => (mk y).trans (h4 y hy), h5, fun t ht hk z hs => (mk _).mpr (h6 t ht hk z hs)⟩
theorem reach_gen {N : Nat} {G : tG} {r : Nat → Nat} {hl : Nat → List Nat} {hv nm : Nat → Nat} {H S : Nat} {RX : Nat → Prop} {LB : tvS → (Nat → Prop) → Prop} {wb : tvS → Nat → tvS} {LS : List Nat} (hS : S < 2147483648) (hN : N < 100000) (hI : ∀ x, r (r x) = r x) (hRX : ∀ t z, RX t → t < N → r t = t → 2 ≤ G.1 t → scs G hl hv t z → RX (r z)) (hz : ∀ t z, t < N → r t = t → 2 ≤ G.1 t → scs G hl hv t z → z < N) (hW : BWR LB wb LS) (Av : Value) (x3 : Int32)
    (h11 : ∀ (d : Nat) (σ : tvS) (v1 : Value) (x4 x5 : Int32) (v6 v7 : Value), rn L xs (d + 1) 353 11 [.ref 123, v1, Av, .int x3, .int x4, .int x5, v6, v7] [] σ = cond (pv_c1 .le x4) (rn L xs (d + 1) 353 97 [.ref 123, v1, Av, .int x3, .int x4, .int x5, v6, v7] [] σ) (cond (pv_in (x4 + Int32.ofInt (-1)) 100000) (cond (pv_in (rd σ 176 (ix (x4 + Int32.ofInt (-1)))) 100000) (cond (pv_c2 .ge (rd σ 166 (ix (rd σ 176 (ix (x4 + Int32.ofInt (-1)))))) 2) (rn L xs (d + 1) 353 42 [.ref 123, v1, Av, .int x3, .int (x4 + Int32.ofInt (-1)), .int x5, .int (rd σ 176 (ix (x4 + Int32.ofInt (-1)))), v7] [] σ) (rn L xs (d + 1) 353 11 [.ref 123, v1, Av, .int x3, .int (x4 + Int32.ofInt (-1)), .int x5, .int (rd σ 176 (ix (x4 + Int32.ofInt (-1)))), v7] [] σ)) none) none))
    (h42n : ∀ (d : Nat) (σ : tvS) (v1 : Value) (x4 x5 : Int32) (t : Nat) (v7 : Value), t < 100000 → rd σ 184 t = 0 → ∃ w7, rn L xs (d + 1) 353 42 [.ref 123, v1, Av, .int x3, .int x4, .int x5, .int (i32 (t : Int)), v7] [] σ = rn L xs (d + 1) 353 84 [.ref 123, v1, Av, .int x3, .int x4, .int (x5 + 1), .int (i32 (t : Int)), w7] [] σ)
    (h42b : ∀ (d : Nat) (σ : tvS) (v1 : Value) (x4 x5 : Int32) (t k : Nat) (v7 : Value), t < 100000 → k < 60 → rd σ 184 t = i32 ((k + 1 : Nat) : Int) → ∃ w7, rn L xs (d + 1) 353 42 [.ref 123, v1, Av, .int x3, .int x4, .int x5, .int (i32 (t : Int)), v7] [] σ = rn L xs (d + 1) 353 84 [.ref 123, v1, Av, .int x3, .int x4, .int (x5 + 1), .int (i32 (t : Int)), w7] [] (wb σ k))
    (h84 : ∀ (d : Nat) (σ : tvS) (v1 : Value) (x4 x5 x6 : Int32) (v7 : Value), rn L xs (d + 1) 353 84 [.ref 123, v1, Av, .int x3, .int x4, .int x5, .int x6, v7] [] σ = bI (rn L xs d 354 0 [.ref 123, .int x6, .int x4, jv, jv] [] σ) (fun a2 s1 => rn L xs (d + 1) 353 11 [.ref 123, (dj v1), Av, .int x3, .int a2, .int x5, .int x6, (dj v7)] [] s1) X0)
    (h97 : ∀ (d : Nat) (σ : tvS) (v1 : Value) (x4 x5 : Int32) (v6 v7 : Value), rn L xs (d + 1) 353 97 [.ref 123, v1, Av, .int x3, .int x4, .int x5, v6, v7] [] σ = some (.inl (some (.int x5)), σ))
    (d : Nat) : ∀ (n : Nat) (DL W : List Nat) (c0 : Nat) (σ : tvS) (B : Nat → Prop) (v1 v6 v7 : Value), N ≤ DL.length + n → RMI N G r hl hv H S RX DL W σ → (∀ t, RX t → t < N → r t = t → 2 ≤ G.1 t → rd σ 184 t = i32 (nm t : Int) ∧ nm t ≤ 60) → LB σ B → c0 ≤ (bxs G DL).length →
    ∃ (σ' : tvS) (DL' : List Nat), rn L xs (d + 4) 353 11 [.ref 123, v1, Av, .int x3, .int (i32 (W.length : Int)), .int (i32 (((bxs G DL).length - c0 : Nat) : Int)), v6, v7] [] σ = some (.inl (some (.int (i32 (((bxs G DL').length - c0 : Nat) : Int)))), σ') ∧ RMI N G r hl hv H S RX DL' [] σ' ∧ (∀ y, y ∈ DL ∨ y ∈ W → y ∈ DL') ∧ LB σ' (fun j => B j ∨ ∃ t, t ∈ bxs G DL' ∧ t ∉ bxs G DL ∧ nm t = j + 1) ∧ frX [169, 171, 176] [] LS σ σ' := by
  intro n
  induction n with
  | zero =>
    intro DL W c0 σ B v1 v6 v7 hn hR hnm hB hc
    have hl := rw_len (N := N) (S := S) hR.2.2.1 (fun y hy => (hR.2.2.2.2.1 y (List.mem_append.mp hy)).1)
    rw [List.length_append] at hl
    have e : W = [] := List.eq_nil_of_length_eq_zero (by omega)
    subst e
    refine ⟨σ, DL, ?_, hR, fun y hy => hy.elim id (fun k => by cases k), hW.2.2.1 σ B _ (fun j _ => ⟨.inl, fun k => k.elim id (fun ⟨t, t1, t2, _⟩ => absurd t1 t2)⟩) hB, frX.refl⟩
    rw [h11 (d + 3), show pv_c1 .le (i32 (([] : List Nat).length : Int)) = true from rfl, cond_true, h97 (d + 3)]
  | succ n ih =>
    intro DL W c0 σ B v1 v6 v7 hn hR hnm hB hc
    cases W with
    | nil =>
      refine ⟨σ, DL, ?_, hR, fun y hy => hy.elim id (fun k => by cases k), hW.2.2.1 σ B _ (fun j _ => ⟨.inl, fun k => k.elim id (fun ⟨t, t1, t2, _⟩ => absurd t1 t2)⟩) hB, frX.refl⟩
      rw [h11 (d + 3), show pv_c1 .le (i32 (([] : List Nat).length : Int)) = true from rfl, cond_true, h97 (d + 3)]
    | cons t W =>
      obtain ⟨⟨i1, i2, i3, i4, i5⟩, r2, r3, r4, r5, r6⟩ := id hR
      obtain ⟨t1, t2, t3⟩ := r5 t (.inr List.mem_cons_self)
      have hWl := rw_len (N := N) (S := S) i4 (fun y hy => (i5 y hy).1)
      have hWl : W.length + 1 ≤ N := hWl
      have ew : i32 ((t :: W).length : Int) + Int32.ofInt (-1) = i32 (W.length : Int) := by
        rw [show Int32.ofInt (-1) = i32 (-1) from rfl, i32_add]; congr 1; show ((W.length + 1 : Nat) : Int) + -1 = _; omega
      have g1 : pv_c1 .le (i32 ((t :: W).length : Int)) = false := by
        rw [show ((t :: W).length : Int) = ((W.length + 1 : Nat) : Int) from rfl, c1_le (by omega) (by omega)]
        exact decide_eq_false (by omega)
      obtain ⟨b1, b2, b3⟩ := i1.2.2.2.2.2.1 t t1
      have r176 : rd σ 176 W.length = i32 (t : Int) := i3.1
      have hnd : (DL ++ t :: W).Nodup := r3
      have hnd' : (t :: DL ++ W).Nodup := by
        have hp : (DL ++ t :: W).Perm (t :: DL ++ W) := List.perm_middle
        exact hp.nodup_iff.mp hnd
      have htD : t ∉ DL := by
        have := List.nodup_append.mp hnd
        exact fun k => this.2.2 t k t List.mem_cons_self rfl
      have e11 : rn L xs (d + 4) 353 11 [.ref 123, v1, Av, .int x3, .int (i32 ((t :: W).length : Int)), .int (i32 (((bxs G DL).length - c0 : Nat) : Int)), v6, v7] [] σ = cond (pv_c2 .ge (i32 (G.1 t : Int)) (i32 2)) (rn L xs (d + 4) 353 42 [.ref 123, v1, Av, .int x3, .int (i32 (W.length : Int)), .int (i32 (((bxs G DL).length - c0 : Nat) : Int)), .int (i32 (t : Int)), v7] [] σ) (rn L xs (d + 4) 353 11 [.ref 123, v1, Av, .int x3, .int (i32 (W.length : Int)), .int (i32 (((bxs G DL).length - c0 : Nat) : Int)), .int (i32 (t : Int)), v7] [] σ) := by
        rw [h11 (d + 3), g1, cond_false, ew, c_in (by omega) (by omega) (by omega), i32_ixn (by omega), r176, c_in (by omega) (by omega) (by omega), i32_ixn (by omega), b1]
        rfl
      rw [e11, c2_ge (by omega) (by omega) (by omega) (by omega)]
      by_cases hk : 2 ≤ G.1 t
      · rw [c_t (by omega)]
        have ebx : bxs G (t :: DL) = t :: bxs G DL := by unfold bxs; rw [List.filter_cons_of_pos (by rw [decide_eq_true_eq]; exact hk)]
        have rW : rwI N G r S W σ := ⟨i1, i2, i3.2, (List.nodup_cons.mp i4).2, fun y hy => i5 y (List.mem_cons_of_mem _ hy)⟩
        obtain ⟨n1, n2⟩ := hnm t t3 t1 t2 hk
        -- the bit, if it has a number
        obtain ⟨s1, w7, f1, f2, f3, f4, f5⟩ : ∃ (s1 : tvS) (w7 : Value), rn L xs (d + 4) 353 42 [.ref 123, v1, Av, .int x3, .int (i32 (W.length : Int)), .int (i32 (((bxs G DL).length - c0 : Nat) : Int)), .int (i32 (t : Int)), v7] [] σ = rn L xs (d + 4) 353 84 [.ref 123, v1, Av, .int x3, .int (i32 (W.length : Int)), .int (i32 (((bxs G DL).length - c0 : Nat) : Int) + 1), .int (i32 (t : Int)), w7] [] s1 ∧ s1.1 = σ.1 ∧ s1.2.2 = σ.2.2 ∧ LB s1 (fun j => B j ∨ nm t = j + 1) ∧ frX [169, 171, 176] [] LS σ s1 := by
          by_cases q : nm t = 0
          · obtain ⟨w7, hw⟩ := h42n (d + 3) σ v1 (i32 (W.length : Int)) (i32 (((bxs G DL).length - c0 : Nat) : Int)) t v7 (by omega) (by rw [n1, q]; rfl)
            exact ⟨σ, w7, hw, rfl, rfl, hW.2.2.1 σ B _ (fun j _ => ⟨.inl, fun k => k.elim id (fun k => by omega)⟩) hB, frX.refl⟩
          · obtain ⟨w7, hw⟩ := h42b (d + 3) σ v1 (i32 (W.length : Int)) (i32 (((bxs G DL).length - c0 : Nat) : Int)) t (nm t - 1) v7 (by omega) (by omega) (by rw [n1, show nm t - 1 + 1 = nm t by omega])
            exact ⟨wb σ (nm t - 1), w7, hw, (hW.2.2.2.1 σ _).1, (hW.2.2.2.1 σ _).2, hW.2.2.1 _ _ _ (fun j _ => or_congr Iff.rfl ⟨fun k => by omega, fun k => by omega⟩) (hW.1 σ B (nm t - 1) (by omega) hB), hW.2.2.2.2 σ _⟩
        have rW1 : rwI N G r S W s1 := rW.i1 f2
        have hH1 : HM N r hl hv H s1 := r2.i1 f2
        have mk1 : ∀ y, mkd S s1 y ↔ mkd S σ y := fun y => by unfold mkd; rw [rd_of1 f2]
        obtain ⟨s2, W', p1, p2, p3, p4, p5, lw, p6, p7, p8⟩ := spread_m (L := L) (xs := xs) rW1 hH1 hS hN t1 t2 hk d jv jv
        have e5 : i32 (((bxs G DL).length - c0 : Nat) : Int) + 1 = i32 (((bxs G (t :: DL)).length - c0 : Nat) : Int) := by
          rw [i32_up, ebx]; congr 1; show (((bxs G DL).length - c0 + 1 : Nat) : Int) = (((bxs G DL).length + 1 - c0 : Nat) : Int); omega
        have hlwW : ∀ y, y ∈ lw → y < N ∧ r y = y := fun y hy => by
          have := p2.2.2.2.2 y (by rw [p6]; exact List.mem_append_left _ hy)
          exact ⟨this.1, this.2.1⟩
        have hR2 : RMI N G r hl hv H S RX (t :: DL) W' s2 := by
          refine ⟨p2, p3, ?_, fun y hy => ?_, fun y hy => ?_, fun u hu hk2 z hs => ?_⟩
          · rw [p6]
            have hlw : lw.Nodup := by
              have := p2.2.2.2.1
              rw [p6] at this
              exact (List.nodup_append.mp this).1
            have hp : (lw ++ (t :: DL ++ W)).Perm (t :: DL ++ (lw ++ W)) := by
              rw [← List.append_assoc, ← List.append_assoc]
              exact List.Perm.append_right W List.perm_append_comm
            refine hp.nodup_iff.mp (List.nodup_append.mpr ⟨hlw, hnd', fun a ha b hb e => ?_⟩)
            rw [e] at ha
            have hbm : mkd S σ b := by
              have hb' : b ∈ DL ∨ b ∈ t :: W := by
                rcases List.mem_append.mp hb with k | k
                · rcases List.mem_cons.mp k with k | k
                  · rw [k]; exact .inr List.mem_cons_self
                  · exact .inl k
                · exact .inr (List.mem_cons_of_mem _ k)
              exact (r4 b (r5 b hb').1).mpr hb'
            exact p7 b ha ((mk1 b).mpr hbm)
          · rw [p6]
            constructor
            · intro k
              rcases p8 y k with k | k
              · rcases (r4 y hy).mp ((mk1 y).mp k) with k | k
                · exact .inl (List.mem_cons_of_mem _ k)
                · rcases List.mem_cons.mp k with k | k
                  · rw [k]; exact .inl List.mem_cons_self
                  · exact .inr (List.mem_append_right _ k)
              · exact .inr (List.mem_append_left _ k)
            · intro k
              rcases k with k | k
              · refine (p5 y).mpr (.inl ((mk1 y).mpr ((r4 y hy).mpr ?_)))
                rcases List.mem_cons.mp k with k | k
                · rw [k]; exact .inr List.mem_cons_self
                · exact .inl k
              · exact (p2.2.2.2.2 y (by rw [p6]; exact k)).2.2
          · rw [p6] at hy
            rcases hy with k | k
            · rcases List.mem_cons.mp k with k | k
              · rw [k]; exact ⟨t1, t2, t3⟩
              · exact r5 y (.inl k)
            · rcases List.mem_append.mp k with k | k
              · have hm2 := (p2.2.2.2.2 y (by rw [p6]; exact List.mem_append_left _ k)).2.2
                rcases (p5 y).mp hm2 with q | ⟨z, z1, z2⟩
                · exact absurd q (p7 y k)
                · exact ⟨(hlwW y k).1, (hlwW y k).2, by rw [z2]; exact hRX t z t3 t1 t2 hk z1⟩
              · exact r5 y (.inr (List.mem_cons_of_mem _ k))
          · rcases List.mem_cons.mp hu with k | k
            · rw [k] at hs; exact (p5 _).mpr (.inr ⟨z, hs, rfl⟩)
            · exact (p5 _).mpr (.inl ((mk1 _).mpr (r6 u k hk2 z hs)))
        have hB2 : LB s2 (fun j => B j ∨ nm t = j + 1) := hW.2.1 s1 s2 _ (by rw [p4.1.2]) f4
        obtain ⟨σ', DL', y1, y2, y3, y4, y5⟩ := ih (t :: DL) W' c0 s2 (fun j => B j ∨ nm t = j + 1) (dj v1) (.int (i32 (t : Int))) (dj w7) (by show N ≤ DL.length + 1 + n; omega) hR2 (fun u hu hlt => by rw [p4.rd (j := 184) rfl, rd_of1 f2]; exact hnm u hu hlt) hB2 (by rw [ebx]; show c0 ≤ (bxs G DL).length + 1; omega)
        have htD' : t ∈ DL' := y3 t (.inl List.mem_cons_self)
        refine ⟨σ', DL', ?_, y2, fun y hy => ?_, hW.2.2.1 _ _ _ (fun j hj => ?_) y4, f5.trans ((p4.X LS).trans y5)⟩
        · rw [f1, h84 (d + 3), bI_ok p1, e5]; exact y1
        · rcases hy with k | k
          · exact y3 y (.inl (List.mem_cons_of_mem _ k))
          · rcases List.mem_cons.mp k with k | k
            · rw [k]; exact htD'
            · exact y3 y (.inr (by rw [p6]; exact List.mem_append_right _ k))
        · have tb : t ∈ bxs G DL' := by unfold bxs; rw [List.mem_filter, decide_eq_true_eq]; exact ⟨htD', hk⟩
          have tn : t ∉ bxs G DL := fun k => htD (List.mem_filter.mp k).1
          constructor
          · rintro ((k | k) | ⟨u, u1, u2, u3⟩)
            · exact .inl k
            · exact .inr ⟨t, tb, tn, k⟩
            · exact .inr ⟨u, u1, fun k => u2 (by rw [ebx]; exact List.mem_cons_of_mem _ k), u3⟩
          · rintro (k | ⟨u, u1, u2, u3⟩)
            · exact .inl (.inl k)
            · by_cases eu : u = t
              · rw [eu] at u3; exact .inl (.inr u3)
              · refine .inr ⟨u, u1, fun k => ?_, u3⟩
                rw [ebx] at k
                rcases List.mem_cons.mp k with k | k
                · exact eu k
                · exact u2 k
      · rw [c_f (by omega)]
        have ebx : bxs G (t :: DL) = bxs G DL := by unfold bxs; rw [List.filter_cons_of_neg (by rw [decide_eq_true_eq]; exact hk)]
        have hR2 : RMI N G r hl hv H S RX (t :: DL) W σ := by
          refine ⟨⟨i1, i2, i3.2, (List.nodup_cons.mp i4).2, fun y hy => i5 y (List.mem_cons_of_mem _ hy)⟩, r2, hnd', fun y hy => ?_, fun y hy => ?_, fun u hu hk2 z hs => ?_⟩
          · rw [r4 y hy]
            constructor
            · rintro (k | k)
              · exact .inl (List.mem_cons_of_mem _ k)
              · rcases List.mem_cons.mp k with k | k
                · rw [k]; exact .inl List.mem_cons_self
                · exact .inr k
            · rintro (k | k)
              · rcases List.mem_cons.mp k with k | k
                · rw [k]; exact .inr List.mem_cons_self
                · exact .inl k
              · exact .inr (List.mem_cons_of_mem _ k)
          · rcases hy with k | k
            · rcases List.mem_cons.mp k with k | k
              · rw [k]; exact ⟨t1, t2, t3⟩
              · exact r5 y (.inl k)
            · exact r5 y (.inr (List.mem_cons_of_mem _ k))
          · rcases List.mem_cons.mp hu with k | k
            · rw [k] at hk2; exact absurd hk2 hk
            · exact r6 u k hk2 z hs
        obtain ⟨σ', DL', y1, y2, y3, y4, y5⟩ := ih (t :: DL) W c0 σ B v1 (.int (i32 (t : Int))) v7 (by show N ≤ DL.length + 1 + n; omega) hR2 hnm hB (by rw [ebx]; exact hc)
        rw [ebx] at y1 y4
        refine ⟨σ', DL', y1, y2, fun y hy => ?_, y4, y5⟩
        rcases hy with k | k
        · exact y3 y (.inl (List.mem_cons_of_mem _ k))
        · rcases List.mem_cons.mp k with k | k
          · rw [k]; exact y3 t (.inl List.mem_cons_self)
          · exact y3 y (.inr k)
end REACHBITS
