/-! REGIONS, THE MODEL: signs, whole -/
section SIGNS3
variable {L : Nat} {xs : Nat → Int32} {σ τ τ' τ0 : tvS} {D : pgD} {m f : Nat} {N H S Sh : Nat} {G : tG} {r : Nat → Nat} {hl : Nat → List Nat} {hv : Nat → Nat} {RX : Nat → Prop}
/-- one more comes to the row -/
theorem RMI.meet {W : List Nat} {x : Nat} (h : RMI N G r hl hv H S RX [] W τ) (hS : S < 2147483648) (hN : N < 100000) (hx : x < N) (hI : ∀ x, r (r x) = r x) (hX : RX (r x)) (d : Nat) :
    ∃ (τ' : tvS) (W' : List Nat), rn L xs (d + 2) 343 0 [.ref 123, .int (i32 (x : Int)), .int (i32 (W.length : Int)), jv] [] τ = some (.inl (some (.int (i32 (W'.length : Int)))), τ') ∧ RMI N G r hl hv H S RX [] W' τ' ∧ (∀ y, y ∈ W → y ∈ W') ∧ r x ∈ W' ∧ frM [169, 171, 176] [] τ τ' := by
  obtain ⟨r1, r2, r3, r4, r5, r6⟩ := h
  have hWl : W.length ≤ N := nodup_lt r1.2.2.2.1 (fun y hy => (r1.2.2.2.2 y hy).1)
  obtain ⟨s1, W', a1, a2, a3, a4, a5⟩ := meets_J (L := L) (xs := xs) r1 hS (by omega) hx d jv
  have hrx := r1.1.rlt hx
  refine ⟨s1, W', a1, ⟨a2, r2.fr a3 rfl ⟨rfl, rfl, rfl⟩, a2.2.2.2.1, fun y hy => ?_, fun y hy => ?_, fun t ht => (by cases ht)⟩, fun y hy => ?_, ?_, a3⟩
  · constructor
    · intro k
      rcases (a5 y).mp k with k | k
      · rcases (r4 y hy).mp k with k | k
        · cases k
        · rcases a4 with ⟨e, _⟩ | ⟨e, _⟩
          · rw [e]; exact .inr k
          · rw [e]; exact .inr (List.mem_cons_of_mem _ k)
      · rcases a4 with ⟨e, e2⟩ | ⟨e, _⟩
        · rw [e]
          exact (r4 y hy).mp (by rw [k]; exact e2)
        · rw [e, k]; exact .inr List.mem_cons_self
    · intro k
      rcases k with k | k
      · cases k
      · exact (a2.2.2.2.2 y k).2.2
  · rcases hy with k | k
    · cases k
    · rcases a4 with ⟨e, _⟩ | ⟨e, _⟩
      · rw [e] at k; exact r5 y (.inr k)
      · rw [e] at k
        rcases List.mem_cons.mp k with k | k
        · rw [k]; exact ⟨hrx, hI x, hX⟩
        · exact r5 y (.inr k)
  · rcases a4 with ⟨e, _⟩ | ⟨e, _⟩
    · rw [e]; exact hy
    · rw [e]; exact List.mem_cons_of_mem _ hy
  · rcases a4 with ⟨e, e2⟩ | ⟨e, _⟩
    · rw [e]
      exact ((r4 _ hrx).mp e2).elim (fun k => by cases k) id
    · rw [e]; exact List.mem_cons_self
theorem sg_meets (hF : PGF D m) (hf : f ≤ D.fc) (hR : PGR D σ τ0) (hty : TYm D f N τ0) (hS : S < 2147483648) (hN : N < 100000) (hI : ∀ x, r (r x) = r x) (hX : ∀ b, SGb D f (vM τ0) (rM τ0 f) b → RX (r b)) (d : Nat) : ∀ (j k : Nat) (W : List Nat) (τ : tvS), k + j = D.bk f + 1 → RMI N G r hl hv H S RX [] W τ → frM [169, 171, 176, 195] [72, 110, 111] τ0 τ → (∀ i, i < k → r (vM τ0 (D.tV f + i)) ∈ W ∨ i = D.bk f) →
    ∃ (τ' : tvS) (W' : List Nat) (w3 : Value), rn L xs (d + 4) 364 31 [.ref 123, .int (i32 (f : Int)), .int (i32 (W.length : Int)), .int (i32 (k : Int))] [] τ = rn L xs (d + 4) 364 85 [.ref 123, .int (i32 (f : Int)), .int (i32 (W'.length : Int)), w3] [] τ' ∧ RMI N G r hl hv H S RX [] W' τ' ∧ (∀ y, y ∈ W → y ∈ W') ∧ (∀ i, k ≤ i → i < D.bk f → r (vM τ0 (D.tV f + i)) ∈ W') ∧ (k ≤ D.bk f → r (rM τ0 f) ∈ W') ∧ frM [169, 171, 176] [] τ τ' := by
  have hb4 := hF.1
  have hff := hR.1 f hf
  have hk5 := (hF.2.2 f hf).1.2.2.2
  have hV1 := (hF.2.2 f hf).1.2.1
  have htl : D.tV (f + 1) ≤ D.tV (D.fc + 1) := by
    have hle : ∀ j g, g + j = D.fc + 1 → D.tV g ≤ D.tV (D.fc + 1) := by
      intro j
      induction j with
      | zero => intro g e; rw [show g = D.fc + 1 by omega]; exact Nat.le_refl _
      | succ j ih => intro g e; exact Nat.le_trans (by have := (hF.2.2 g (by omega)).1.2.1; omega) (ih (g + 1) (by omega))
    exact hle (D.fc - f) (f + 1) (by omega)
  intro j
  induction j with
  | zero =>
    intro k W τ e hM w hc
    have e : k = D.bk f + 1 := by omega
    subst e
    refine ⟨τ, W, .int (i32 ((D.bk f + 1 : Nat) : Int)), ?_, hM, fun y hy => hy, fun i h1 h2 => by omega, fun h => by omega, frM.refl⟩
    rw [e364_31 (d + 3), c_in (by omega) (by omega) (by omega), i32_ixn (by omega), w.rd (j := 140) rfl, hff.2.1.1, c2_gt (by omega) (by omega) (by omega) (by omega), c_t (by omega)]
  | succ j ih =>
    intro k W τ e hM w hc
    have head : rn L xs (d + 4) 364 31 [.ref 123, .int (i32 (f : Int)), .int (i32 (W.length : Int)), .int (i32 (k : Int))] [] τ = rn L xs (d + 4) 364 74 [.ref 123, .int (i32 (f : Int)), .int (i32 (W.length : Int)), .int (i32 (k : Int))] [.int (i32 ((if k < D.bk f then vM τ0 (D.tV f + k) else rM τ0 f : Nat) : Int)), .ref 123] τ := by
      by_cases q : k < D.bk f
      · have ei : i32 (D.tV f : Int) + i32 (k : Int) = i32 ((D.tV f + k : Nat) : Int) := by rw [i32_add]; congr 1
        rw [if_pos q, e364_31 (d + 3), c_in (by omega) (by omega) (by omega), i32_ixn (by omega), w.rd (j := 140) rfl, hff.2.1.1, c2_gt (by omega) (by omega) (by omega) (by omega), c_f (by omega), c_in (by omega) (by omega) (by omega), c2_ge (by omega) (by omega) (by omega) (by omega), c_f (by omega), c_in (by omega) (by omega) (by omega), w.rd (j := 141) rfl, hff.2.1.2.1, ei, c_in (by omega) (by omega) (by omega), i32_ixn (by omega), w.rd (j := 179) rfl, (hty.2.1 (D.tV f + k) (by omega) (by omega)).1]
      · rw [if_neg q, e364_31 (d + 3), c_in (by omega) (by omega) (by omega), i32_ixn (by omega), w.rd (j := 140) rfl, hff.2.1.1, c2_gt (by omega) (by omega) (by omega) (by omega), c_f (by omega), c_in (by omega) (by omega) (by omega), c2_ge (by omega) (by omega) (by omega) (by omega), c_t (by omega), e364_68, c_in (by omega) (by omega) (by omega), i32_ixn (by omega), w.rd (j := 180) rfl, hty.2.2.1]
    obtain ⟨x, ex, hx, hb⟩ : ∃ x, x = (if k < D.bk f then vM τ0 (D.tV f + k) else rM τ0 f) ∧ x < N ∧ SGb D f (vM τ0) (rM τ0 f) x := by
      by_cases q : k < D.bk f
      · exact ⟨_, rfl, by rw [if_pos q]; exact (hty.2.1 (D.tV f + k) (by omega) (by omega)).2, by rw [if_pos q]; exact .inr ⟨k, q, rfl⟩⟩
      · exact ⟨_, rfl, by rw [if_neg q]; exact hty.2.2.2, by rw [if_neg q]; exact .inl rfl⟩
    rw [← ex] at head
    obtain ⟨s1, W1, a1, a2, a3, a4, a5⟩ := hM.meet (L := L) (xs := xs) hS hN hx hI (hX x hb) (d + 1)
    obtain ⟨τ', W', w3, z1, z2, z3, z4, z5, z6⟩ := ih (k + 1) W1 s1 (by omega) a2 (w.trans (a5.sub rfl rfl)) (fun i hi => by
      by_cases q : i = k
      · rw [q]
        by_cases q2 : k < D.bk f
        · rw [if_pos q2] at ex
          rw [← ex]; exact .inl a4
        · exact .inr (by omega)
      · exact (hc i (by omega)).imp (fun h => a3 _ h) id)
    refine ⟨τ', W', w3, ?_, z2, fun y hy => z3 y (a3 y hy), fun i h1 h2 => ?_, fun h => ?_, a5.trans z6⟩
    · rw [head, e364_74 (d + 3), bI_ok a1, i32_up]; exact z1
    · by_cases q : i = k
      · rw [q, if_pos (by omega)] at *
        rw [ex] at a4
        exact z3 _ a4
      · exact z4 i (by omega) h2
    · by_cases q : k = D.bk f
      · rw [if_neg (by omega)] at ex
        rw [ex] at a4
        exact z3 _ a4
      · exact z5 (by omega)
theorem signs_m (hF : PGF D m) (hf : f ≤ D.fc) (hR : PGR D σ τ) (hty : TYm D f N τ) (hZ : MZ N G r hl hv H S τ) (hq : MQt N G r hl hv) (hMH : MH N Sh τ) (hHK : HK N G r hl) (hS : S + 1 < 2147483648) (hSh : Sh + N < 2147483648) (d : Nat) (v2 v3 : Value) :
    ∃ (τ' : tvS) (DL : List Nat) (Sh' : Nat), rn L xs (d + 4) 364 0 [.ref 123, .int (i32 (f : Int)), v2, v3] [] τ = some (.inl none, τ') ∧ MZ N G r hl hv H (S + 1) τ' ∧ MH N Sh' τ' ∧ Sh ≤ Sh' ∧ Sh' ≤ Sh + N ∧ SGN f G r hv hl DL τ' ∧ DL.Nodup ∧ (∀ t, t ∈ DL ↔ r t = t ∧ RQ G r (hC hl hv) (SGb D f (vM τ) (rM τ f)) t) ∧ frM FSG [72, 84, 110, 111] τ τ' ∧ ∀ g, g ≠ f → rd τ' 195 g = rd τ 195 g := by
  obtain ⟨q1, q2, q3, q4, q5⟩ := id hq
  have hb4 := hF.1
  obtain ⟨s1, es1⟩ : ∃ s1, s1 = wr (wr (wr τ 195 f 0) 123 110 0) 123 111 0 := ⟨_, rfl⟩
  have w1 : frM [195] [110, 111] τ s1 := by rw [es1]; exact (frM_wr rfl (by decide)).trans ((frM_w rfl).trans (frM_w rfl))
  have hZ1 : MZ N G r hl hv H S s1 := ⟨hZ.1.fr w1 rfl ⟨rfl, rfl, rfl, rfl⟩, hZ.2.1.fr w1 rfl ⟨rfl, rfl, rfl⟩, hZ.2.2.fr w1 rfl ⟨rfl, rfl⟩⟩
  have hD := RMD.new hZ1.1 hZ1.2.1 hZ1.2.2 hS
  obtain ⟨s2, es2⟩ : ∃ s2, s2 = wr s1 123 72 (rd s1 123 72 + 1) := ⟨_, rfl⟩
  rw [← es2] at hD
  have w2 : frM [195] [72, 110, 111] τ s2 := (w1.sub rfl rfl).trans (by rw [es2]; exact frM_w rfl)
  have hR2 : RMI N G r hl hv H (S + 1) (RQ G r (hC hl hv) (SGb D f (vM τ) (rM τ f))) [] [] s2 := hD.1.rx (fun y k => k.mono (fun b k => k.elim))
  obtain ⟨s3, W, w3, a1, a2, a3, a4, a5, a6⟩ := sg_meets (L := L) (xs := xs) (τ0 := τ) (RX := RQ G r (hC hl hv) (SGb D f (vM τ) (rM τ f))) hF hf hR hty hS q1 q2 (fun b hb => (RQ.base hb).cl (q2 b).symm) d (D.bk f + 1) 0 [] s2 (by omega) hR2 (w2.sub rfl rfl) (fun i hi => by omega)
  have wb : frM [169, 171, 176, 195] [72, 110, 111] τ s3 := (w2.sub rfl rfl).trans (a6.sub rfl rfl)
  have hC3 : SGN f G r hv hl [] s3 := by
    have e0 : (bxs G ([] : List Nat)).length = 0 := rfl
    refine ⟨?_, ?_, ?_⟩
    · rw [a6.rd (j := 195) rfl, es2, wr_nek (by decide), es1, wr_nek (by decide), wr_nek (by decide), wr_self]; rfl
    · rw [a6.2 110 rfl, es2, wr_nei (by decide), es1, wr_nei (by decide), wr_self]; rfl
    · rw [a6.2 111 rfl, es2, wr_nei (by decide), es1, wr_self]; rfl
  obtain ⟨τ', DL, Sh', z1, z2, z3, z4, z5, z6, z7, z8, z9⟩ := sg_loop (L := L) (xs := xs) (f := f) (by omega) hS q1 q2 hHK (RX := RQ G r (hC hl hv) (SGb D f (vM τ) (rM τ f))) (fun t z q _ e k s => by
    rcases s with s | ⟨i, i1, i2⟩
    · exact (q.kid (by rw [e]; exact k) (by rw [e]; exact s)).cl (q2 z).symm
    · exact (q.held (by rw [e]; exact ⟨i, i1, i2⟩)).cl (q2 z).symm) q4 d N [] W Sh s3 w3 (by omega) hSh a2 (hMH.fr wb rfl rfl) hC3
  have g195 : ∀ g, g ≠ f → rd s3 195 g = rd τ 195 g := fun g hg => by
    rw [a6.rd (j := 195) rfl, es2, wr_nek (by decide), es1, wr_nek (by decide), wr_nek (by decide), wr_nei hg]
  refine ⟨τ', DL, Sh', ?_, ⟨z2.1.1, z2.2.1, z2.1.2.1⟩, z3, z4, z5, z6, ?_, fun t => ?_, (wb.sub rfl rfl).trans (z8.sub rfl rfl), fun g hg => by rw [z9 g hg]; exact g195 g hg⟩
  · have a1' : rn L xs (d + 4) 364 31 [.ref 123, .int (i32 (f : Int)), .int 0, .int 0] [] s2 = rn L xs (d + 4) 364 85 [.ref 123, .int (i32 (f : Int)), .int (i32 (W.length : Int)), w3] [] s3 := a1
    have e72 : rd (wr (wr (wr τ 195 f 0) 123 110 0) 123 111 0) 123 72 = rd τ 123 72 := by rw [wr_nei (by decide), wr_nei (by decide), wr_nek (by decide)]
    rw [es1, e72] at es2
    rw [e364_0, c_in (by omega) (by omega) (by omega), i32_ixn (by omega), ← es2, a1']
    exact z1
  · have := z2.2.2.1
    rw [List.append_nil] at this
    exact this
  · constructor
    · intro ht
      obtain ⟨k1, k2, k3⟩ := z2.2.2.2.2.1 t (.inl ht)
      exact ⟨k2, k3⟩
    · rintro ⟨k1, k2⟩
      have mk : ∀ y, y < N → mkd (S + 1) τ' y → y ∈ DL := fun y hy k => ((z2.2.2.2.1 y hy).mp k).elim id (fun k => by cases k)
      have := k2 (fun y => r y ∈ DL) (fun x y e k => by rw [← e]; exact k) (fun x z k hk hz => by
        obtain ⟨k1, k2, _⟩ := z2.2.2.2.2.1 _ (.inl k)
        have hzN := q4 (r x) z k1 k2 hk (.inl hz)
        exact mk _ (q3 z hzN) (z2.2.2.2.2.2 (r x) k hk z (.inl hz))) (fun x u k hu => by
        obtain ⟨k1, k2, _⟩ := z2.2.2.2.2.1 _ (.inl k)
        obtain ⟨i, i1, i2⟩ := hu
        have hk := q5 x u ⟨i, i1, i2⟩
        have hzN := q4 (r x) u k1 k2 hk (.inr ⟨i, i1, i2⟩)
        exact mk _ (q3 u hzN) (z2.2.2.2.2.2 (r x) k hk u (.inr ⟨i, i1, i2⟩))) (fun b hb => by
        rcases hb with e | ⟨k, h1, h2⟩
        · rw [e]; exact z7 _ (.inr (a5 (Nat.zero_le _)))
        · rw [h2]; exact z7 _ (.inr (a4 k (Nat.zero_le _) h1)))
      rw [k1] at this; exact this
end SIGNS3
