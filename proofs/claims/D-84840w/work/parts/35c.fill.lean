/-! TYPES OF THE MODEL: what the arrow at hand holds -/
section CPH
variable {L : Nat} {xs : Nat → Int32} {σ σ' : tvS}
theorem HM.hold {N : Nat} {r : Nat → Nat} {hl : Nat → List Nat} {hv : Nat → Nat} {H : Nat} (h : HM N r hl hv H σ) {c v : Nat} (hc : c < N) (hrc : r c = c) (hv' : v < N) (hH : H < 250000) :
    HM N r (upL hl c (H :: hl c)) (upN hv H v) (H + 1) (wr (wr (wr (wr σ 174 H (i32 (v : Int))) 175 H (rd σ 170 c)) 170 c (i32 (H : Int))) 123 73 (i32 ((H + 1 : Nat) : Int))) := by
  obtain ⟨a1, a2, a4, a5, a6⟩ := h
  have hnH : ∀ t, t < N → r t = t → H ∉ hl t := fun t ht hr k => by have := (a5 t ht hr).2.2 H k; omega
  refine ⟨wr_self _ _ _ _, by omega, fun i hi => ?_, fun t ht hr => ?_, ?_⟩
  · rw [wr_nek (by decide), wr_nek (by decide), wr_nek (by decide)]
    unfold upN
    by_cases e : i = H
    · rw [if_pos e, e, wr_self]; exact ⟨rfl, hv'⟩
    · rw [if_neg e, wr_nei e]; exact a4 i (by omega)
  · rw [wr_nek (by decide)]
    have r175 : ∀ i, i ≠ H → rd (wr (wr (wr (wr σ 174 H (i32 (v : Int))) 175 H (rd σ 170 c)) 170 c (i32 (H : Int))) 123 73 (i32 ((H + 1 : Nat) : Int))) 175 i = rd σ 175 i := fun i hi => by
      rw [wr_nek (by decide), wr_nek (by decide), wr_nei hi, wr_nek (by decide)]
    obtain ⟨b1, b2, b3⟩ := a5 t ht hr
    by_cases e : t = c
    · subst e
      rw [show upL hl t (H :: hl t) t = H :: hl t from if_pos rfl, wr_self]
      refine ⟨⟨rfl, ?_⟩, List.nodup_cons.mpr ⟨hnH t ht hr, b2⟩, fun i hi => ?_⟩
      · rw [wr_nek (by decide), wr_nek (by decide), wr_self]
        exact b1.congr (fun i hi => r175 i (fun e => hnH t ht hr (e ▸ hi)))
      · rcases List.mem_cons.mp hi with q | q
        · omega
        · have := b3 i q; omega
    · rw [show upL hl c (H :: hl c) t = hl t from if_neg e, wr_nei e, wr_nek (by decide), wr_nek (by decide)]
      exact ⟨b1.congr (fun i hi => r175 i (fun e => hnH t ht hr (e ▸ hi))), b2, fun i hi => by have := b3 i hi; omega⟩
  · intro t t' i ht ht' hr hr' hi hi'
    by_cases e : t = c
    · by_cases e' : t' = c
      · rw [e, e']
      · rw [show upL hl c (H :: hl c) t' = hl t' from if_neg e'] at hi'
        rw [e, show upL hl c (H :: hl c) c = H :: hl c from if_pos rfl] at hi
        rcases List.mem_cons.mp hi with q | q
        · rw [q] at hi'; exact absurd hi' (hnH t' ht' hr')
        · rw [e]; exact a6 c t' i hc ht' hrc hr' q hi'
    · rw [show upL hl c (H :: hl c) t = hl t from if_neg e] at hi
      by_cases e' : t' = c
      · rw [e', show upL hl c (H :: hl c) c = H :: hl c from if_pos rfl] at hi'
        rcases List.mem_cons.mp hi' with q | q
        · rw [q] at hi; exact absurd hi (hnH t ht hr)
        · rw [e']; exact a6 t c i ht hc hr hrc hi q
      · rw [show upL hl c (H :: hl c) t' = hl t' from if_neg e'] at hi'
        exact a6 t t' i ht ht' hr hr' hi hi'
/-- what the one at hand knows of its parts -/
def cmK (G0 : tG) (r : Nat → Nat) (N : Nat) (im : Nat → Nat) (SL : List Nat) (t va vb : Nat) (σ : tvS) : Prop :=
  2 ≤ G0.1 t → rd σ 167 (im t) = i32 (va : Int) ∧ va < N ∧ cov G0 r SL im (G0.2.1 t) va ∧ (G0.1 t ≠ 3 → rd σ 168 (im t) = i32 (vb : Int) ∧ vb < N ∧ cov G0 r SL im (G0.2.2 t) vb)
def FCH : List Nat := [166, 167, 168, 169, 170, 171, 172, 173, 174, 175, 176, 183]
theorem fillm_hold {N0 S Sh b1 b2 : Nat} {G0 : tG} {r : Nat → Nat} {hl0 : Nat → List Nat} {hv0 : Nat → Nat} {H0 : Nat} {RS : Nat → Prop} (hB : cpB N0 G0 r hl0 hv0 H0 RS b1 b2) (h0 : ∀ x, G0.1 x ≤ 4) (hi1 : ∀ x, G0.1 x = 1 ↔ x = 0) (hr2 : ∀ x, r (r x) = r x) (hb : N0 + b1 < 99990) (hb2 : H0 + b2 < 250000) (hS2 : S < 2147483648) (hSh : Sh < 2147483648) {t va vb o : Nat} (ho : o ≤ 50000) (hb1 : b1 ≤ 40000) (d : Nat) (x2 x4 : Int32) :
    ∀ (l : List Nat) (done : List Nat), done ++ l = hl0 t → ∀ {N : Nat} {G : tG} {hl : Nat → List Nat} {hv : Nat → Nat} {H : Nat} {im : Nat → Nat} {SL : List Nat} {PL : List (Nat × Nat)} {Q : List Nat} {z : Prop} {σ : tvS} {x7 : Int32}, cpI N0 G0 r hl0 hv0 H0 RS N G hl hv H im SL PL [t] (nz Q) → cmS N0 S r N G hl hv H Sh im SL [t] o Q z σ → cmK G0 r N im SL t va vb σ → chW σ l x7 → Q.length ≤ SL.length + 1 →
      (∀ y, y < N0 → (rd σ 183 y = i32 (Sh : Int) ↔ ∃ i, i ∈ done ∧ r (hv0 i) = y ∧ G0.1 y ≠ 1)) →
      (∀ i, i ∈ done → G0.1 (r (hv0 i)) ≠ 1 → ∃ j, j ∈ hl (im t) ∧ cov G0 r SL im (hv0 i) (hv j)) → (∀ j, j ∈ hl (im t) → ∃ i, i ∈ done ∧ G0.1 (r (hv0 i)) ≠ 1 ∧ cov G0 r SL im (hv0 i) (hv j)) → ∀ v1 v5 v8 : Value,
      ∃ (σ' : tvS) (N' : Nat) (G' : tG) (hl' : Nat → List Nat) (hv' : Nat → Nat) (H' : Nat) (im' : Nat → Nat) (SL' : List Nat) (PL' : List (Nat × Nat)) (Q' : List Nat) (z' : Prop) (w1 w5 w6 w7 w8 : Value), rn L xs (d + 4) 336 184 [.ref 123, v1, .int x2, .int (i32 (o + Q.length : Nat)), .int x4, v5, .int (i32 (im t)), .int x7, v8] [] σ = rn L xs (d + 4) 336 324 [.ref 123, w1, .int x2, .int (i32 (o + Q'.length : Nat)), .int x4, w5, w6, w7, w8] [] σ' ∧
        cpI N0 G0 r hl0 hv0 H0 RS N' G' hl' hv' H' im' SL' PL' [t] (nz Q') ∧ cmS N0 S r N' G' hl' hv' H' Sh im' SL' [t] o Q' z' σ' ∧ cmK G0 r N' im' SL' t va vb σ' ∧ (∀ i, i ∈ hl0 t → G0.1 (r (hv0 i)) ≠ 1 → ∃ j, j ∈ hl' (im' t) ∧ cov G0 r SL' im' (hv0 i) (hv' j)) ∧ (∀ j, j ∈ hl' (im' t) → ∃ i, i ∈ hl0 t ∧ G0.1 (r (hv0 i)) ≠ 1 ∧ cov G0 r SL' im' (hv0 i) (hv' j)) ∧ N ≤ N' ∧ (∀ s, s ∈ SL → s ∈ SL' ∧ im' s = im s) ∧ (z → z') ∧ frM FCH [63, 73] σ σ' ∧ 2 * (b1 - SL'.length) + Q'.length ≤ 2 * (b1 - SL.length) + Q.length ∧ Q'.length ≤ SL'.length + 1 ∧ Q'.length + SL.length ≤ SL'.length + Q.length ∧ (∀ y, y ∈ Q' → y ∈ Q ∨ RS y) := by
  intro l
  induction l with
  | nil =>
    intro done hdn N G hl hv H im SL PL Q z σ x7 hI hM hK hc hQl h3 h1 h2 v1 v5 v8
    rw [List.append_nil] at hdn
    subst hdn
    rw [e336_184, show x7 = i32 (-1) from hc, i32_raw, c2_refl]
    exact ⟨σ, N, G, hl, hv, H, im, SL, PL, Q, z, v1, v5, _, _, v8, rfl, hI, hM, hK, h1, h2, Nat.le_refl _, fun s hs => ⟨hs, rfl⟩, id, frM.refl, Nat.le_refl _, hQl, by omega, fun y hy => .inl hy⟩
  | cons i l ih =>
    intro done hdn N G hl hv H im SL PL Q z σ x7 hI hM hK hc hQl h3 h1 h2 v1 v5 v8
    obtain ⟨c1, c2⟩ := hc
    have him : i ∈ hl0 t := by rw [← hdn]; exact List.mem_append_right _ List.mem_cons_self
    have htS : t ∈ SL := hI.2.2.2.2.2.1 t (List.mem_append_left _ (List.mem_singleton.mpr rfl))
    obtain ⟨t1, t2, t3, t4, t5⟩ := hI.2.2.1 t htS
    obtain ⟨b3, b4, b5, b6⟩ := hB.1 t t1
    obtain ⟨g1, g2, g3⟩ := b6 i him
    obtain ⟨u1, u2, u3, u4⟩ := hB.1 _ g3
    have hHH0 : H0 ≤ H := by rw [hI.2.2.2.2.2.2.2.2.2.2.2.2.2.1]; omega
    have hH250 := hM.2.1.2.1
    have r174 := hM.2.1.2.2.1 i (by omega)
    have hvi : hv i = hv0 i := hI.2.2.2.2.2.2.2.2.2.2.2.1 i g1
    have hN := hM.1.2.2.1
    have hNN : N0 ≤ N := by rw [hI.1]; omega
    have hSLb : SL.length ≤ b1 := hB.2.1 SL hI.2.1 (fun t ht => ⟨(hI.2.2.1 t ht).1, (hI.2.2.1 t ht).2.1⟩)
    have rnew : ∀ x, N0 ≤ x → r x = x := hB.2.2.2
    obtain ⟨s1, f1, T1, w1⟩ := find_MQ (L := L) (xs := xs) hM.1 (show hv0 i < N by omega) (d + 2) jv jv jv
    have k4 := h0 (r (hv0 i))
    have M1 : cmS N0 S r N G hl hv H Sh im SL [t] o Q z s1 := by
      obtain ⟨m1, m2, m3, m4, m5, m6, m7, m8, m9⟩ := hM
      exact ⟨T1, m2.fr w1 rfl ⟨rfl, rfl, rfl⟩, m3.fr w1 rfl ⟨rfl, rfl⟩, m4.fr w1 rfl rfl, m5.congr (fun i _ _ => w1.rd (j := 176) rfl i), fun s hs => by rw [w1.rd (j := 171) rfl]; exact m6 s hs, fun s hs => by rw [w1.rd (j := 173) rfl]; exact m7 s hs, fun hz => by rw [w1.rd (j := 173) rfl]; exact m8 hz, m9⟩
    have K1' : cmK G0 r N im SL t va vb s1 := fun hk => by rw [w1.rd (j := 167) rfl, w1.rd (j := 168) rfl]; exact hK hk
    have e184 : rd s1 123 84 = i32 (Sh : Int) := M1.2.2.2.1.1
    have eK : rd s1 166 (r (hv0 i)) = i32 (G0.1 (r (hv0 i)) : Int) := by rw [(T1.2.2.2.2.2.1 _ (by omega)).1, (hI.2.2.2.2.2.2.2.2.2.1 _ u1).1]
    have dn2 : (done ++ [i]) ++ l = hl0 t := by rw [List.append_assoc]; exact hdn
    rw [e336_184 (d + 3), c1, i32_raw, c2_eq (by omega) (by omega) (by omega) (by omega), c_f (by omega), c_in (by omega) (by omega) (by omega), i32_ixn (by omega), r174.1, hvi, bI_ok f1, c_in (by omega) (by omega) (by omega), i32_ixn (by omega), e184, w1.rd (j := 183) rfl]
    have ch1 : chW s1 l (rd σ 175 i) := c2.congr (fun j _ => w1.rd (j := 175) rfl j)
    have p312 : ∀ (s : tvS) (n : Nat) (u1 u5 u8 : Value), rd s 175 i = rd σ 175 i → rn L xs (d + 4) 336 312 [.ref 123, u1, .int x2, .int (i32 (n : Int)), .int x4, u5, .int (i32 (im t)), .int (i32 (i : Int)), u8] [] s = rn L xs (d + 4) 336 184 [.ref 123, u1, .int x2, .int (i32 (n : Int)), .int x4, u5, .int (i32 (im t)), .int (rd σ 175 i), u8] [] s := by
      intro s n u1 u5 u8 e
      rw [e336_312, c_in (by omega) (by omega) (by omega), i32_ixn (by omega), e]
    -- nothing new
    have skip : (∀ y, y < N0 → (rd s1 183 y = i32 (Sh : Int) ↔ ∃ i', i' ∈ done ++ [i] ∧ r (hv0 i') = y ∧ G0.1 y ≠ 1)) → (G0.1 (r (hv0 i)) ≠ 1 → ∃ j, j ∈ hl (im t) ∧ cov G0 r SL im (hv0 i) (hv j)) → _ := fun q1 q2 =>
      ih (done ++ [i]) dn2 hI M1 K1' ch1 hQl q1 (fun i' hi' hk => by
        rcases List.mem_append.mp hi' with q | q
        · exact h1 i' q hk
        · rw [List.mem_singleton.mp q] at hk ⊢; exact q2 hk) (fun j hj => by
        obtain ⟨i', y1, y2⟩ := h2 j hj
        exact ⟨i', List.mem_append_left _ y1, y2⟩) (dj v1) (dj v5) (.int (i32 (r (hv0 i) : Int)))
    have memE : ∀ {y : Nat} , (∃ i', i' ∈ done ++ [i] ∧ r (hv0 i') = y ∧ G0.1 y ≠ 1) ↔ (∃ i', i' ∈ done ∧ r (hv0 i') = y ∧ G0.1 y ≠ 1) ∨ (r (hv0 i) = y ∧ G0.1 y ≠ 1) := by
      intro y
      constructor
      · rintro ⟨i', y1, y2⟩
        rcases List.mem_append.mp y1 with q | q
        · exact .inl ⟨i', q, y2⟩
        · rw [List.mem_singleton.mp q] at y2; exact .inr y2
      · rintro (⟨i', y1, y2⟩ | y2)
        · exact ⟨i', List.mem_append_left _ y1, y2⟩
        · exact ⟨i, List.mem_append_right _ (List.mem_singleton.mpr rfl), y2⟩
    by_cases c3 : rd σ 183 (r (hv0 i)) = i32 (Sh : Int)
    · obtain ⟨i', y1, y2, y3⟩ := (h3 _ u1).mp c3
      rw [c3, c2_refl, show d + 3 + 1 = d + 4 from rfl, p312 s1 _ _ _ _ (w1.rd (j := 175) rfl i)]
      obtain ⟨σ', N', G', hl', hv', H', im', SL', PL', Q', z', z1, z5, z6, z7, z8, j1, j2, j3, j4, j5, j6, j7, j8, j9, j10, j11, j12, j13, j14⟩ := skip (fun y hy => by
          rw [w1.rd (j := 183) rfl, h3 y hy, memE]
          exact ⟨.inl, fun k => k.elim id (fun k => ⟨i', y1, by rw [y2]; exact k.1, k.2⟩)⟩) (fun hk => by
          obtain ⟨j, q1, q2⟩ := h1 i' y1 (by rw [y2]; exact hk)
          exact ⟨j, q1, by unfold cov at q2 ⊢; rw [y2] at q2; exact q2⟩)
      exact ⟨σ', N', G', hl', hv', H', im', SL', PL', Q', z', z1, z5, z6, z7, z8, j1, j2, j3, j4, j5, j6, j7, j8, j9, (w1.sub rfl rfl).trans j10, j11, j12, j13, j14⟩
    · rw [show pv_c2 .eq (rd σ 183 (r (hv0 i))) (i32 (Sh : Int)) = false from decide_eq_false c3, cond_false, c_in (by omega) (by omega) (by omega), eK, show (1 : Int32) = i32 1 from rfl, c2_ne (by omega) (by omega) (by omega) (by omega)]
      by_cases c4 : G0.1 (r (hv0 i)) = 1
      · rw [c_f (by omega), show d + 3 + 1 = d + 4 from rfl, p312 s1 _ _ _ _ (w1.rd (j := 175) rfl i)]
        obtain ⟨σ', N', G', hl', hv', H', im', SL', PL', Q', z', z1, z5, z6, z7, z8, j1, j2, j3, j4, j5, j6, j7, j8, j9, j10, j11, j12, j13, j14⟩ := skip (fun y hy => by
            rw [w1.rd (j := 183) rfl, h3 y hy, memE]
            exact ⟨.inl, fun k => k.elim id (fun k => absurd (by rw [← k.1]; exact c4) k.2)⟩) (fun hk => absurd c4 hk)
        exact ⟨σ', N', G', hl', hv', H', im', SL', PL', Q', z', z1, z5, z6, z7, z8, j1, j2, j3, j4, j5, j6, j7, j8, j9, (w1.sub rfl rfl).trans j10, j11, j12, j13, j14⟩
      · -- one more is held
        have x0 : r (hv0 i) ≠ 0 := fun e => c4 ((hi1 _).mpr e)
        have w2 : frM [183] [] s1 (wr s1 183 (r (hv0 i)) (i32 (Sh : Int))) := frM_wr rfl (by decide)
        have M2 : cmS N0 S r N G hl hv H Sh im SL [t] o Q z (wr s1 183 (r (hv0 i)) (i32 (Sh : Int))) := by
          obtain ⟨m1, m2, m3, m4, m5, m6, m7, m8, m9⟩ := M1
          refine ⟨m1.fr w2 rfl ⟨rfl, rfl, rfl, rfl⟩, m2.fr w2 rfl ⟨rfl, rfl, rfl⟩, m3.fr w2 rfl ⟨rfl, rfl⟩, ⟨by rw [w2.2 84 rfl]; exact m4.1, fun y hy => ?_⟩, m5.congr (fun i _ _ => w2.rd (j := 176) rfl i), fun s hs => by rw [w2.rd (j := 171) rfl]; exact m6 s hs, fun s hs => by rw [w2.rd (j := 173) rfl]; exact m7 s hs, fun hz => by rw [w2.rd (j := 173) rfl]; exact m8 hz, m9⟩
          rw [rd_wr]
          by_cases e : y = r (hv0 i)
          · rw [if_pos ⟨rfl, e⟩]; exact ⟨Sh, Nat.le_refl _, rfl⟩
          · rw [if_neg (fun k => e k.2)]; exact m4.2 y hy
        have hoQ : o + Q.length < 100000 := by omega
        obtain ⟨s3, N1, G1, im1, SL1, Q1, z1, a1, I3, M3, a2, a3, ext, a5, a6, a7, a8, fr3⟩ := meet_c (L := L) (xs := xs) hB h0 hi1 hb hS2 hI M2 hoQ g3 d
        have xS : r (hv0 i) ∈ SL1 := a2.elim id (fun k => absurd k.1 x0)
        have eim : im1 t = im t := (ext t htS).2
        have htS1 := (ext t htS).1
        have imt1 := I3.2.2.1 t htS1
        have imx := I3.2.2.1 _ xS
        have hN1 := M3.1.2.2.1
        have hHlt : H < 250000 := by
          have : PL.length ≤ b2 := hB.2.2.1 PL hI.2.2.2.2.2.2.2.2.2.2.2.2.2.2.1 (fun p hp => by
            obtain ⟨y1, y1', y2, y3, y4, _⟩ := hI.2.2.2.2.2.2.2.2.2.2.2.2.2.2.2 p hp
            exact ⟨y2, y3, y4⟩)
          have := hI.2.2.2.2.2.2.2.2.2.2.2.2.2.1
          omega
        have e73 : rd s3 123 73 = i32 (H : Int) := M3.2.1.1
        have e1 : i32 (H : Int) + 1 = i32 ((H + 1 : Nat) : Int) := by rw [show (1 : Int32) = i32 1 from rfl, i32_add]; rfl
        have p231 : ∀ (v1 v5 : Value), rn L xs (d + 3 + 1) 336 231 [.ref 123, v1, .int x2, .int (i32 (o + Q.length : Nat)), .int x4, v5, .int (i32 (im t)), .int (i32 (i : Int)), .int (i32 (r (hv0 i) : Int))] [] s1 =
            rn L xs (d + 4) 336 312 [.ref 123, dj v1, .int x2, .int (i32 (o + (Q ++ Q1).length : Nat)), .int x4, dj v5, .int (i32 (im t)), .int (i32 (i : Int)), .int (i32 (r (hv0 i) : Int))] [] (wr (wr (wr (wr s3 174 H (i32 (im1 (r (hv0 i)) : Int))) 175 H (rd s3 170 (im1 t))) 170 (im1 t) (i32 (H : Int))) 123 73 (i32 ((H + 1 : Nat) : Int))) := by
          intro v1 v5
          rw [e336_231 (d + 3), c_in (by omega) (by omega) (by omega), i32_ixn (by omega), e184, bI_ok a1, e73, show (250000 : Int32) = i32 250000 from rfl, c2_ge (by omega) (by omega) (by omega) (by omega), c_f (by omega), c_in (by omega) (by omega) (by omega), c_in (by omega) (by omega) (by omega), c_in (by omega) (by omega) (by omega), c_in (by omega) (by omega) (by omega), c_in (by omega) (by omega) (by omega), e1, i32_ixn (by omega), i32_ixn (by omega), M3.2.2.2.2.2.2.1 _ xS, eim]
        rw [c_t (by omega), p231, p312 _ _ _ _ _ (by
          rw [wr_nek (by decide), wr_nek (by decide), wr_nei (by omega), wr_nek (by decide), fr3.1.rd (j := 175) rfl, w2.rd (j := 175) rfl, w1.rd (j := 175) rfl])]
        have w4 : frM [170, 174, 175] [73] s3 (wr (wr (wr (wr s3 174 H (i32 (im1 (r (hv0 i)) : Int))) 175 H (rd s3 170 (im1 t))) 170 (im1 t) (i32 (H : Int))) 123 73 (i32 ((H + 1 : Nat) : Int))) := (frM_wr rfl (by decide)).trans ((frM_wr rfl (by decide)).trans ((frM_wr rfl (by decide)).trans (frM_w rfl)))
        have rim1 : r (im1 t) = im1 t := rnew _ imt1.2.2.1
        have H4 := M3.2.1.hold (c := im1 t) (v := im1 (r (hv0 i))) imt1.2.2.2.1 rim1 imx.2.2.2.1 hHlt
        have s175 : ∀ j, j ∈ l → rd (wr (wr (wr (wr s3 174 H (i32 (im1 (r (hv0 i)) : Int))) 175 H (rd s3 170 (im1 t))) 170 (im1 t) (i32 (H : Int))) 123 73 (i32 ((H + 1 : Nat) : Int))) 175 j = rd s1 175 j := fun j hj => by
          have : j < H0 := (b6 j (by rw [← hdn]; exact List.mem_append_right _ (List.mem_cons_of_mem _ hj))).1
          rw [wr_nek (by decide), wr_nek (by decide), wr_nei (by omega), wr_nek (by decide), fr3.1.rd (j := 175) rfl, w2.rd (j := 175) rfl]
        generalize hs4 : wr (wr (wr (wr s3 174 H (i32 (im1 (r (hv0 i)) : Int))) 175 H (rd s3 170 (im1 t))) 170 (im1 t) (i32 (H : Int))) 123 73 (i32 ((H + 1 : Nat) : Int)) = s4 at *
        have M4 : cmS N0 S r N1 G1 (upL hl (im1 t) (H :: hl (im1 t))) (upN hv H (im1 (r (hv0 i)))) (H + 1) Sh im1 SL1 [t] o (Q ++ Q1) z1 s4 := by
          obtain ⟨m1, m2, m3, m4, m5, m6, m7, m8, m9⟩ := M3
          exact ⟨m1.fr w4 rfl ⟨rfl, rfl, rfl, rfl⟩, H4, m3.fr w4 rfl ⟨rfl, rfl⟩, m4.fr w4 rfl rfl, m5.congr (fun i _ _ => w4.rd (j := 176) rfl i), fun s hs => by rw [w4.rd (j := 171) rfl]; exact m6 s hs, fun s hs => by rw [w4.rd (j := 173) rfl]; exact m7 s hs, fun hz => by rw [w4.rd (j := 173) rfl]; exact m8 hz, m9⟩
        have jlt : ∀ s, s ∈ SL1 → ∀ j, j ∈ hl (im1 s) → j < H := fun s hs j hj => (M3.2.1.2.2.2.1 (im1 s) (I3.2.2.1 s hs).2.2.2.1 (rnew _ (I3.2.2.1 s hs).2.2.1)).2.2 j hj
        have cv : cov G0 r SL1 im1 (hv0 i) (im1 (r (hv0 i))) := .inr ⟨c4, xS, rfl⟩
        have D2 : ∀ j, j ∈ hl (im1 t) → ∃ i', i' ∈ done ∧ G0.1 (r (hv0 i')) ≠ 1 ∧ cov G0 r SL1 im1 (hv0 i') (hv j) := fun j q1 => by
          rw [eim] at q1
          obtain ⟨i', q2, q3, q4⟩ := h2 j q1
          exact ⟨i', q2, q3, q4.mono ext⟩
        have hnew : ¬ ∃ j, j ∈ hl (im1 t) ∧ hv j = im1 (r (hv0 i)) := by
          rintro ⟨j, q1, q2⟩
          obtain ⟨i', q3, q4, q5⟩ := D2 j q1
          rcases q5 with q5 | q5
          · exact q4 q5.1
          · rw [q2] at q5
            have := I3.2.2.2.1 _ _ xS q5.2.1 q5.2.2
            exact c3 ((h3 _ u1).mpr ⟨i', q3, this.symm, c4⟩)
        have I4 := I3.hold jlt him c4 cv hnew (l' := H :: hl (im1 t)) (fun j => by rw [List.mem_cons, or_comm])
        have lE : upL hl (im1 t) (H :: hl (im1 t)) (im1 t) = H :: hl (im1 t) := if_pos rfl
        have vE : upN hv H (im1 (r (hv0 i))) H = im1 (r (hv0 i)) := if_pos rfl
        have vO : ∀ j, j ∈ hl (im1 t) → upN hv H (im1 (r (hv0 i))) j = hv j := fun j hj => if_neg (by have := jlt t htS1 j hj; omega)
        have K4 : cmK G0 r N1 im1 SL1 t va vb s4 := fun hk => by
          obtain ⟨y1, y2, y3, y4⟩ := K1' hk
          obtain ⟨_, f167, f168, _, _⟩ := fr3.2 (im t) t4
          rw [w4.rd (j := 167) rfl, w4.rd (j := 168) rfl, eim, f167, f168, w2.rd (j := 167) rfl, w2.rd (j := 168) rfl]
          exact ⟨y1, by omega, y3.mono ext, fun h3 => ⟨(y4 h3).1, by have := (y4 h3).2.1; omega, (y4 h3).2.2.mono ext⟩⟩
        have hSL1 : SL1.length ≤ b1 := hB.2.1 SL1 I3.2.1 (fun t ht => ⟨(I3.2.2.1 t ht).1, (I3.2.2.1 t ht).2.1⟩)
        have hSLle : SL.length ≤ SL1.length := nodup_len SL SL1 hI.2.1 (fun s hs => (ext s hs).1)
        have hQ1 : (Q ++ Q1).length ≤ SL1.length + 1 ∧ 2 * (b1 - SL1.length) + (Q ++ Q1).length ≤ 2 * (b1 - SL.length) + Q.length ∧ (Q ++ Q1).length + SL.length ≤ SL1.length + Q.length := by
          rw [List.length_append]
          rcases a7 with e | ⟨e, e2 | e2⟩
          · rw [e]; show Q.length + 0 ≤ _ ∧ _ + (Q.length + 0) ≤ _ ∧ Q.length + 0 + _ ≤ _; omega
          · rw [e]; show Q.length + 1 ≤ _ ∧ _ + (Q.length + 1) ≤ _ ∧ Q.length + 1 + _ ≤ _; omega
          · exact absurd e2.1 x0
        obtain ⟨σ', N', G', hl', hv', H', im', SL', PL', Q', z', y1, y5, y6, y7, y8, j1, j2, j3, j4, j5, j6, j7, j8, j9, j10, j11, j12, j13, j14⟩ := ih (done ++ [i]) dn2 I4 M4 K4 (ch1.congr s175) hQ1.1 (fun y hy => by
            rw [w4.rd (j := 183) rfl, (fr3.2 y (by omega)).2.2.2.2, rd_wr, memE]
            by_cases e : y = r (hv0 i)
            · rw [if_pos ⟨rfl, e⟩]; exact ⟨fun _ => .inr ⟨e.symm, by rw [e]; exact c4⟩, fun _ => rfl⟩
            · rw [if_neg (fun k => e k.2), w1.rd (j := 183) rfl, h3 y hy]
              exact ⟨.inl, fun k => k.elim id (fun k => absurd k.1.symm e)⟩) (fun i' hi' hk => by
            rw [lE]
            rcases List.mem_append.mp hi' with q | q
            · obtain ⟨j, q1, q2⟩ := h1 i' q hk
              rw [← eim] at q1
              exact ⟨j, List.mem_cons_of_mem _ q1, by rw [vO j q1]; exact q2.mono ext⟩
            · rw [List.mem_singleton.mp q]; exact ⟨H, List.mem_cons_self, by rw [vE]; exact cv⟩) (fun j hj => by
            rw [lE] at hj
            rcases List.mem_cons.mp hj with q | q
            · rw [q, vE]; exact ⟨i, List.mem_append_right _ (List.mem_singleton.mpr rfl), c4, cv⟩
            · rw [vO j q]
              obtain ⟨i', q1, q2⟩ := D2 j q
              exact ⟨i', List.mem_append_left _ q1, q2⟩) (dj (dj v1)) (dj (dj v5)) (.int (i32 (r (hv0 i) : Int)))
        rw [eim] at j1
        exact ⟨σ', N', G', hl', hv', H', im', SL', PL', Q', z', y1, y5, y6, y7, y8, j1, j2, j3, j4, j5, j6, by omega, fun s hs => ⟨(j8 s (ext s hs).1).1, by rw [(j8 s (ext s hs).1).2, (ext s hs).2]⟩, fun k => j9 (a5 k), (w1.sub rfl rfl).trans ((w2.sub rfl rfl).trans ((fr3.1.sub rfl rfl).trans ((w4.sub rfl rfl).trans j10))), by omega, j12, by omega, fun y hy => (j14 y hy).elim (fun q => (List.mem_append.mp q).elim .inl (fun q => .inr (by
          rcases a7 with e | ⟨e, _⟩
          · rw [e] at q; cases q
          · rw [e] at q; rw [List.mem_singleton.mp q]; exact g3))) .inr⟩
end CPH
