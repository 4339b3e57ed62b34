/-! REGIONS, THE MODEL: what a function's signature is of -/
section SIGNS2
variable {L : Nat} {xs : Nat → Int32} {σ τ τ' τ0 : tvS} {D : pgD} {m f : Nat} {N H S Sh : Nat} {G : tG} {r : Nat → Nat} {hl : Nat → List Nat} {hv : Nat → Nat} {RX : Nat → Prop}
theorem RMI.keep {DL W : List Nat} {S' F : List Nat} (h : RMI N G r hl hv H S RX DL W τ) (w : frM S' F τ τ') (hT : TM N G r τ') (hS : inL S' 170 = false ∧ inL S' 171 = false ∧ inL S' 172 = false ∧ inL S' 174 = false ∧ inL S' 175 = false ∧ inL S' 176 = false) (hF : inL F 72 = false ∧ inL F 73 = false) : RMI N G r hl hv H S RX DL W τ' := by
  obtain ⟨⟨a1, a2, a3, a4, a5⟩, b1, b2, b3, b4, b5⟩ := h
  have em : ∀ y, mkd S τ' y ↔ mkd S τ y := fun y => by unfold mkd; rw [w.rd (j := 171) hS.2.1]
  exact ⟨⟨hT, a2.fr w hF.1 ⟨hS.2.1, hS.2.2.1⟩, a3.fr w hS.2.2.2.2.2, a4, fun y hy => ⟨(a5 y hy).1, (a5 y hy).2.1, (em y).mpr (a5 y hy).2.2⟩⟩, b1.fr w hF.2 ⟨hS.1, hS.2.2.2.1, hS.2.2.2.2.1⟩, b2, fun y hy => (em y).trans (b3 y hy), b4, fun t ht hk z hs => (em _).mpr (b5 t ht hk z hs)⟩
/-- counts of what is done with -/
def SGN (f : Nat) (G : tG) (r hv : Nat → Nat) (hl : Nat → List Nat) (DL : List Nat) (τ : tvS) : Prop := rd τ 195 f = i32 ((bxs G DL).length : Int) ∧ rd τ 123 110 = i32 (unk G DL : Int) ∧ rd τ 123 111 = i32 ((hpr G r hv hl DL).length : Int)
def FSG : List Nat := [169, 171, 176, 183, 195]
theorem sg_loop (hf : f < 22) (hS : S < 2147483648) (hN : N < 100000) (hI : ∀ x, r (r x) = r x) (hHK : HK N G r hl) (hRX : ∀ t z, RX t → t < N → r t = t → 2 ≤ G.1 t → scs G hl hv t z → RX (r z)) (hz : ∀ t z, t < N → r t = t → 2 ≤ G.1 t → scs G hl hv t z → z < N) (d : Nat) : ∀ (n : Nat) (DL W : List Nat) (Sh : Nat) (τ : tvS) (v3 : Value), N ≤ DL.length + n → Sh + n < 2147483648 → RMI N G r hl hv H S RX DL W τ → MH N Sh τ → SGN f G r hv hl DL τ →
    ∃ (τ' : tvS) (DL' : List Nat) (Sh' : Nat), rn L xs (d + 4) 364 85 [.ref 123, .int (i32 (f : Int)), .int (i32 (W.length : Int)), v3] [] τ = some (.inl none, τ') ∧ RMI N G r hl hv H S RX DL' [] τ' ∧ MH N Sh' τ' ∧ Sh ≤ Sh' ∧ Sh' ≤ Sh + n ∧ SGN f G r hv hl DL' τ' ∧ (∀ y, y ∈ DL ∨ y ∈ W → y ∈ DL') ∧ frM FSG [84, 110, 111] τ τ' ∧ ∀ g, g ≠ f → rd τ' 195 g = rd τ 195 g := by
  intro n
  induction n with
  | zero =>
    intro DL W Sh τ v3 hn hSh hR hM hC
    have hlen : (DL ++ W).length ≤ N := nodup_lt hR.2.2.1 (fun y hy => (hR.2.2.2.2.1 y (List.mem_append.mp hy)).1)
    rw [List.length_append] at hlen
    have e : W = [] := List.eq_nil_of_length_eq_zero (by omega)
    subst e
    refine ⟨τ, DL, Sh, ?_, hR, hM, Nat.le_refl _, Nat.le_refl _, hC, fun y hy => hy.elim id (fun k => by cases k), frM.refl, fun _ _ => rfl⟩
    rw [e364_85, show pv_c1 .le (i32 (([] : List Nat).length : Int)) = true from rfl, cond_true, e364_184]
  | succ n ih =>
    intro DL W Sh τ v3 hn hSh hR hM hC
    cases W with
    | nil =>
      refine ⟨τ, DL, Sh, ?_, hR, hM, Nat.le_refl _, by omega, hC, fun y hy => hy.elim id (fun k => by cases k), frM.refl, fun _ _ => rfl⟩
      rw [e364_85, show pv_c1 .le (i32 (([] : List Nat).length : Int)) = true from rfl, cond_true, e364_184]
    | cons t W =>
      obtain ⟨⟨i1, i2, i3, i4, i5⟩, r2, r3, r4, r5, r6⟩ := id hR
      obtain ⟨t1, t2, t3⟩ := r5 t (.inr List.mem_cons_self)
      have hWl : (t :: W).length ≤ N := nodup_lt i4 (fun y hy => (i5 y hy).1)
      have hWl : W.length + 1 ≤ N := hWl
      have hDl : (DL ++ t :: W).length ≤ N := nodup_lt r3 (fun y hy => (r5 y (List.mem_append.mp hy)).1)
      have hDl : DL.length + (W.length + 1) ≤ N := by rw [List.length_append] at hDl; exact hDl
      have ew : i32 ((t :: W).length : Int) + Int32.ofInt (-1) = i32 (W.length : Int) := by
        rw [show Int32.ofInt (-1) = i32 (-1) from rfl, i32_add]; congr 1; show ((W.length + 1 : Nat) : Int) + -1 = _; omega
      have g1 : pv_c1 .le (i32 ((t :: W).length : Int)) = false := by
        rw [show ((t :: W).length : Int) = ((W.length + 1 : Nat) : Int) from rfl, c1_le (by omega) (by omega)]
        exact decide_eq_false (by omega)
      obtain ⟨b1, b2, b3⟩ := i1.2.2.2.2.2.1 t t1
      have r176 : rd τ 176 W.length = i32 (t : Int) := i3.1
      have hnd : (DL ++ t :: W).Nodup := r3
      have hnd' : (t :: DL ++ W).Nodup := by
        have hp : (DL ++ t :: W).Perm (t :: DL ++ W) := List.perm_middle
        exact hp.nodup_iff.mp hnd
      obtain ⟨c1, c2, c3⟩ := hC
      have hbxl : (bxs G DL).length ≤ DL.length := List.length_filter_le _ _
      have hun : unk G DL ≤ DL.length := List.length_filter_le _ _
      -- counts of one more
      obtain ⟨k1, hk1⟩ : ∃ k1 : Nat, (k1 = 1 ∧ 2 ≤ G.1 t) ∨ (k1 = 0 ∧ ¬ 2 ≤ G.1 t) := by
        by_cases q : 2 ≤ G.1 t
        · exact ⟨1, .inl ⟨rfl, q⟩⟩
        · exact ⟨0, .inr ⟨rfl, q⟩⟩
      obtain ⟨k2, hk2⟩ : ∃ k2 : Nat, (k2 = 1 ∧ G.1 t = 0) ∨ (k2 = 0 ∧ G.1 t ≠ 0) := by
        by_cases q : G.1 t = 0
        · exact ⟨1, .inl ⟨rfl, q⟩⟩
        · exact ⟨0, .inr ⟨rfl, q⟩⟩
      have eb : (bxs G (t :: DL)).length = (bxs G DL).length + k1 := by
        unfold bxs
        rcases hk1 with ⟨q1, q2⟩ | ⟨q1, q2⟩
        · rw [List.filter_cons_of_pos (by rw [decide_eq_true_eq]; exact q2), q1]; rfl
        · rw [List.filter_cons_of_neg (by rw [decide_eq_true_eq]; exact q2), q1]; rfl
      have eu : unk G (t :: DL) = unk G DL + k2 := by
        unfold unk
        rcases hk2 with ⟨q1, q2⟩ | ⟨q1, q2⟩
        · rw [List.filter_cons_of_pos (by rw [decide_eq_true_eq]; exact q2), q1]; rfl
        · rw [List.filter_cons_of_neg (by rw [decide_eq_true_eq]; exact q2), q1]; rfl
      have ehp : (hpr G r hv hl (t :: DL)).length = (hpr G r hv hl DL).length + (hbx G r hv [] (hl t)).length := by
        unfold hpr
        rw [List.flatMap_cons, List.length_append, List.length_map]; omega
      obtain ⟨s1, es1⟩ : ∃ s1, s1 = wr τ 195 f (i32 (((bxs G DL).length + k1 : Nat) : Int)) := ⟨_, rfl⟩
      obtain ⟨s2, es2⟩ : ∃ s2, s2 = wr s1 123 110 (i32 ((unk G DL + k2 : Nat) : Int)) := ⟨_, rfl⟩
      have w1 : frM [195] [] τ s1 := by rw [es1]; exact frM_wr rfl (by decide)
      have w2 : frM [195] [110] τ s2 := (w1.sub rfl rfl).trans (by rw [es2]; exact frM_w rfl)
      have hT2 : TM N G r s2 := i1.fr w2 rfl ⟨rfl, rfl, rfl, rfl⟩
      have hM2 : MH N Sh s2 := hM.fr w2 rfl rfl
      have hH2 := r2.fr w2 rfl ⟨rfl, rfl, rfl⟩
      have run1 : rn L xs (d + 4) 364 85 [.ref 123, .int (i32 (f : Int)), .int (i32 ((t :: W).length : Int)), v3] [] τ = rn L xs (d + 4) 364 142 [.ref 123, .int (i32 (f : Int)), .int (i32 (W.length : Int)), .int (i32 (t : Int))] [.int (i32 (k2 : Int)), .int (i32 (unk G DL : Int)), .ref 123] s1 := by
        have h121 : rn L xs (d + 4) 364 85 [.ref 123, .int (i32 (f : Int)), .int (i32 ((t :: W).length : Int)), v3] [] τ = rn L xs (d + 4) 364 121 [.ref 123, .int (i32 (f : Int)), .int (i32 (W.length : Int)), .int (i32 (t : Int))] [.int (i32 (k1 : Int)), .int (i32 ((bxs G DL).length : Int)), .int (i32 (f : Int)), .ref 195] τ := by
          rw [e364_85 (d + 3), g1, cond_false]
          rw [show (i32 ((t :: W).length : Int) + Int32.ofInt (-1)) = i32 (W.length : Int) from ew]
          rw [c_in (by omega) (by omega) (by omega), c_in (by omega) (by omega) (by omega), i32_ixn (show W.length < 2147483648 by omega), r176, c_in (by omega) (by omega) (by omega), i32_ixn (by omega), b1, i32_ixn (by omega), c1, show (2 : Int32) = i32 2 from rfl, c2_lt (by omega) (by omega) (by omega) (by omega)]
          rcases hk1 with ⟨q1, q2⟩ | ⟨q1, q2⟩
          · rw [c_f (by omega), q1]; rfl
          · rw [c_t (by omega), e364_120, q1]; rfl
        have eadd : i32 ((bxs G DL).length : Int) + i32 (k1 : Int) = i32 (((bxs G DL).length + k1 : Nat) : Int) := by rw [i32_add]; congr 1
        have e110 : rd s1 123 110 = i32 (unk G DL : Int) := (w1.2 110 rfl).trans c2
        have e110' : rd τ 123 110 = i32 (unk G DL : Int) := c2
        rw [h121, e364_121, c_in (by omega) (by omega) (by omega), c_in (by omega) (by omega) (by omega), i32_ixn (by omega), i32_ixn (by omega), b1, eadd, ← es1, e110']
        rcases hk2 with ⟨q1, q2⟩ | ⟨q1, q2⟩
        · rw [q2, show pv_c1 .ne (i32 ((0 : Nat) : Int)) = false from rfl, cond_false, q1]; rfl
        · have : pv_c1 .ne (i32 (G.1 t : Int)) = true := by
            refine decide_eq_true (fun k => ?_)
            have := (i32_inj (by omega) (by omega) (by omega) (by omega)).mp (show i32 (G.1 t : Int) = i32 ((0 : Nat) : Int) from k)
            omega
          rw [this, cond_true, e364_141, q1]; rfl
      have eadd2 : i32 (unk G DL : Int) + i32 (k2 : Int) = i32 ((unk G DL + k2 : Nat) : Int) := by rw [i32_add]; congr 1
      -- what it holds
      obtain ⟨s3, Sh3, h1, h2, h3, h4, h5, h6⟩ : ∃ (s3 : tvS) (Sh3 : Nat), rn L xs (d + 4) 364 142 [.ref 123, .int (i32 (f : Int)), .int (i32 (W.length : Int)), .int (i32 (t : Int))] [.int (i32 (k2 : Int)), .int (i32 (unk G DL : Int)), .ref 123] s1 = rn L xs (d + 4) 364 170 [.ref 123, .int (i32 (f : Int)), .int (i32 (W.length : Int)), .int (i32 (t : Int))] [.int (i32 ((hbx G r hv [] (hl t)).length : Int)), .int (i32 ((hpr G r hv hl DL).length : Int)), .ref 123] s3 ∧ TM N G r s3 ∧ MH N Sh3 s3 ∧ Sh ≤ Sh3 ∧ Sh3 ≤ Sh + 1 ∧ frM [169, 183] [84] s2 s3 := by
        have e111 : rd s2 123 111 = i32 ((hpr G r hv hl DL).length : Int) := (w2.2 111 rfl).trans c3
        have e111' : rd s1 123 111 = i32 ((hpr G r hv hl DL).length : Int) := (w1.2 111 rfl).trans c3
        have e166 : rd s1 166 t = i32 (G.1 t : Int) := (w1.rd (j := 166) rfl t).trans b1
        by_cases q4 : G.1 t = 4
        · obtain ⟨s3, a1, a2, a3, a4⟩ := heldBy_m (L := L) (xs := xs) (hl := hl) hT2 hH2 hM2 (by omega) t1 t2 (d + 1) jv jv jv
          refine ⟨s3, Sh + 1, ?_, a2, a3, by omega, Nat.le_refl _, a4⟩
          rw [e364_142 (d + 3), c_in (by omega) (by omega) (by omega), i32_ixn (by omega), e166, show (4 : Int32) = i32 4 from rfl, c2_ne (by omega) (by omega) (by omega) (by omega), c_f (by omega), eadd2, ← es2, bI_ok a1, e111']
        · have hnil : hl t = [] := by
            apply Classical.byContradiction
            intro hne
            exact q4 (hHK t t1 t2 hne)
          refine ⟨s2, Sh, ?_, hT2, hM2, Nat.le_refl _, by omega, frM.refl⟩
          rw [e364_142 (d + 3), c_in (by omega) (by omega) (by omega), i32_ixn (by omega), e166, show (4 : Int32) = i32 4 from rfl, c2_ne (by omega) (by omega) (by omega) (by omega), c_t (by omega), e364_169, eadd2, ← es2, e111', hnil]
          rfl
      obtain ⟨s4, es4⟩ : ∃ s4, s4 = wr s3 123 111 (i32 ((hpr G r hv hl (t :: DL)).length : Int)) := ⟨_, rfl⟩
      have w4 : frM [] [111] s3 s4 := by rw [es4]; exact frM_w rfl
      have wA : frM [169, 183, 195] [84, 110, 111] τ s4 := (w2.sub rfl rfl).trans ((h6.sub rfl rfl).trans (w4.sub rfl rfl))
      have hT4 : TM N G r s4 := h2.fr w4 rfl ⟨rfl, rfl, rfl, rfl⟩
      have hR4 := hR.keep wA hT4 ⟨rfl, rfl, rfl, rfl, rfl, rfl⟩ ⟨rfl, rfl⟩
      have hM4 : MH N Sh3 s4 := h3.fr w4 rfl rfl
      have hC4 : SGN f G r hv hl (t :: DL) s4 := by
        refine ⟨?_, ?_, by rw [es4, wr_self]⟩
        · rw [w4.rd (j := 195) rfl, h6.rd (j := 195) rfl, es2, wr_nek (by decide), es1, wr_self, eb]
        · rw [es4, wr_nei (by decide), h6.2 110 rfl, es2, wr_self, eu]
      have eadd3 : i32 ((hpr G r hv hl DL).length : Int) + i32 ((hbx G r hv [] (hl t)).length : Int) = i32 ((hpr G r hv hl (t :: DL)).length : Int) := by rw [i32_add, ehp]; congr 1
      have g195 : ∀ g, g ≠ f → rd s4 195 g = rd τ 195 g := fun g hg => by rw [w4.rd (j := 195) rfl, h6.rd (j := 195) rfl, es2, wr_nek (by decide), es1, wr_nei hg]
      -- it spreads
      obtain ⟨⟨j1, j2, j3, j4, j5⟩, q2, q3, q4, q5, q6⟩ := id hR4
      have rW4 : rwI N G r S W s4 := ⟨j1, j2, j3.2, (List.nodup_cons.mp j4).2, fun y hy => j5 y (List.mem_cons_of_mem _ hy)⟩
      obtain ⟨s5, W5, y1, y2, y3⟩ : ∃ (s5 : tvS) (W5 : List Nat), rn L xs (d + 3) 354 0 [.ref 123, .int (i32 (t : Int)), .int (i32 (W.length : Int)), jv, jv] [] s4 = some (.inl (some (.int (i32 (W5.length : Int)))), s5) ∧ RMI N G r hl hv H S RX (t :: DL) W5 s5 ∧ frM [169, 171, 176] [] s4 s5 ∧ ∀ y, y ∈ W → y ∈ W5 := by
        by_cases hk : 2 ≤ G.1 t
        · obtain ⟨s5, W5, p1, p2, p3, p4, p5, lw, p6, p7, p8⟩ := spread_m (L := L) (xs := xs) rW4 q2 hS hN t1 t2 hk d jv jv
          refine ⟨s5, W5, p1, ⟨p2, p3, ?_, fun y hy => ?_, fun y hy => ?_, fun u hu hk2 z hs => ?_⟩, p4, fun y hy => by rw [p6]; exact List.mem_append_right _ hy⟩
          · rw [p6]
            have hp : (t :: DL ++ (lw ++ W)).Perm (lw ++ (t :: DL ++ W)) := by
              rw [← List.append_assoc, ← List.append_assoc]
              exact List.Perm.append_right W List.perm_append_comm
            refine hp.nodup_iff.mpr (List.nodup_append.mpr ⟨?_, hnd', fun a ha b hb e => ?_⟩)
            · have := p2.2.2.2.1
              rw [p6] at this
              exact (List.nodup_append.mp this).1
            · refine p7 a ha ?_
              rw [e]
              have hb2 : b ∈ DL ∨ b ∈ t :: W := by
                rcases List.mem_append.mp hb with h | h
                · rcases List.mem_cons.mp h with h | h
                  · rw [h]; exact .inr List.mem_cons_self
                  · exact .inl h
                · exact .inr (List.mem_cons_of_mem _ h)
              exact (q4 b (q5 b hb2).1).mpr hb2
          · rw [p6]
            constructor
            · intro hmk
              rcases p8 y hmk with h | h
              · rcases (q4 y hy).mp h with h | h
                · exact .inl (List.mem_cons_of_mem _ h)
                · rcases List.mem_cons.mp h with h | h
                  · rw [h]; exact .inl List.mem_cons_self
                  · exact .inr (List.mem_append_right _ h)
              · exact .inr (List.mem_append_left _ h)
            · intro h
              rcases h with h | h
              · refine (p5 y).mpr (.inl ((q4 y hy).mpr ?_))
                rcases List.mem_cons.mp h with h | h
                · rw [h]; exact .inr List.mem_cons_self
                · exact .inl h
              · exact (p2.2.2.2.2 y (by rw [p6]; exact h)).2.2
          · rw [p6] at hy
            rcases hy with h | h
            · rcases List.mem_cons.mp h with h | h
              · rw [h]; exact ⟨t1, t2, t3⟩
              · exact q5 y (.inl h)
            · rcases List.mem_append.mp h with h | h
              · have hm := p2.2.2.2.2 y (by rw [p6]; exact List.mem_append_left _ h)
                rcases (p5 y).mp hm.2.2 with k | ⟨z, k1, k2⟩
                · exact absurd k (p7 y h)
                · refine ⟨hm.1, hm.2.1, ?_⟩
                  rw [k2]; exact hRX t z t3 t1 t2 hk k1
              · exact q5 y (.inr (List.mem_cons_of_mem _ h))
          · rcases List.mem_cons.mp hu with h | h
            · rw [h] at hs; exact (p5 _).mpr (.inr ⟨z, hs, rfl⟩)
            · exact (p5 _).mpr (.inl (q6 u h hk2 z hs))
        · refine ⟨s4, W, ?_, ⟨rW4, q2, hnd', fun y hy => ?_, fun y hy => ?_, fun u hu hk2 z hs => ?_⟩, frM.refl, fun y hy => hy⟩
          · have e166 : rd s4 166 t = i32 (G.1 t : Int) := (wA.rd (j := 166) rfl t).trans b1
            rw [e354_0, c_in (by omega) (by omega) (by omega), i32_ixn (by omega), e166, show (2 : Int32) = i32 2 from rfl, c2_ge (by omega) (by omega) (by omega) (by omega), c_f (by omega)]
          · rw [q4 y hy]
            constructor
            · rintro (h | h)
              · exact .inl (List.mem_cons_of_mem _ h)
              · rcases List.mem_cons.mp h with h | h
                · rw [h]; exact .inl List.mem_cons_self
                · exact .inr h
            · rintro (h | h)
              · rcases List.mem_cons.mp h with h | h
                · rw [h]; exact .inr List.mem_cons_self
                · exact .inl h
              · exact .inr (List.mem_cons_of_mem _ h)
          · rcases hy with h | h
            · rcases List.mem_cons.mp h with h | h
              · rw [h]; exact ⟨t1, t2, t3⟩
              · exact q5 y (.inl h)
            · exact q5 y (.inr (List.mem_cons_of_mem _ h))
          · rcases List.mem_cons.mp hu with h | h
            · rw [h] at hk2; exact absurd hk2 hk
            · exact q6 u h hk2 z hs
      obtain ⟨y3, y4⟩ := y3
      have hM5 : MH N Sh3 s5 := hM4.fr y3 rfl rfl
      have hC5 : SGN f G r hv hl (t :: DL) s5 := ⟨by rw [y3.rd (j := 195) rfl]; exact hC4.1, by rw [y3.2 110 rfl]; exact hC4.2.1, by rw [y3.2 111 rfl]; exact hC4.2.2⟩
      obtain ⟨τ', DL', Sh', z1, z2, z3, z4, z5, z6, z7, z8, z9⟩ := ih (t :: DL) W5 Sh3 s5 (.int (i32 (t : Int))) (by show N ≤ DL.length + 1 + n; omega) (by omega) y2 hM5 hC5
      refine ⟨τ', DL', Sh', ?_, z2, z3, by omega, by omega, z6, fun y hy => z7 y ?_, (wA.sub rfl rfl).trans ((y3.sub rfl rfl).trans z8), fun g hg => by rw [z9 g hg, y3.rd (j := 195) rfl]; exact g195 g hg⟩
      · rw [run1, h1, e364_170 (d + 3), eadd3, ← es4, bI_ok y1]
        exact z1
      · rcases hy with h | h
        · exact .inl (List.mem_cons_of_mem _ h)
        · rcases List.mem_cons.mp h with h | h
          · rw [h]; exact .inl List.mem_cons_self
          · exact .inr (y4 y h)
end SIGNS2
