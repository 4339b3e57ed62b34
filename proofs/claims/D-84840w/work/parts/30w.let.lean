/-! READING: let -/
section LET
variable {L : Nat} {xs : Nat → Int32} {K1 K2 m : Nat} {μ : Nat → Nat} {g fc : Nat} {sc : List Nat} {fs fs' : List (Nat × Nat × List Nat)} {F D H n A P r r0 : Nat} {σ τ σ' τ' σ1 τ1 : tvS}
theorem i32_ne0 {k : Nat} (h : k ≠ 0) (h2 : k ≤ 6) : pv_c1 .le (i32 (k : Int)) = false := by
  rw [c1_le (by omega) (by omega)]
  exact decide_eq_false (by omega)
theorem c1_nz {k : Nat} (h : k ≠ 0) (h2 : k ≤ 6) : pv_c1 .ne (i32 (k : Int)) = true ∧ pv_c1 .gt (i32 (k : Int)) = true := by
  rw [c1_ne (by omega) (by omega), c1_gt (by omega) (by omega)]
  exact ⟨decide_eq_true (by omega), decide_eq_true (by omega)⟩
theorem mFlt_5 {k p : Int32} : rd (mFlt τ k p) 123 5 = k := by unfold mFlt; rw [rd_wr, if_neg (by omega), wr_self]
theorem OLD.opn {v len S : Nat} {x : Int32} (hS : rd τ' 123 42 = i32 S) (hS3 : S < 4000) (h : OLD n r H P σ τ σ' τ') : OLD n r H P σ τ (wr σ' 62 5 x) (mOpen τ' v len S) := by
  obtain ⟨a1, a2, a3, a4, a5, a6, a7, a8, a9⟩ := h.wrC (j := 62) (i := 5) (x := x) (Or.inl rfl)
  refine ⟨fun i hi j h1 h2 => (mOpen_oth (by omega) (by omega)).trans (a1 i hi j h1 h2), fun i hi j h1 h2 => (mOpen_oth (by omega) (by omega)).trans (a2 i hi j h1 h2), a3, a4, a5, a6, a7, a8.trans (P1 := P) ⟨fun _ _ _ _ => rfl, fun _ _ _ _ _ => rfl, fun j hj i => mOpen_oth (by omega) (by omega), fun p _ => mOpen_oth (by omega) (by omega), fun s hs => ?_, ?_⟩ (Nat.le_refl _), a9⟩
  · rw [hS, i32_ixn (by omega)] at hs
    have har := mOpen_ar (τ := τ') (v := v) (len := len) (S := S) s
    exact ⟨by rw [har.2.2.1, if_neg (by omega)], by rw [har.2.2.2, if_neg (by omega)]⟩
  · rw [mOpen_123.2.1, hS, i32_ixn (by omega), i32_ixn (by omega)]; omega
theorem let_ok {B d : Nat} {τs : tvS} (hE : NT L xs K1 K2 m μ g fc 1 119 0 0 [jv] B) (h : ST K1 K2 m μ g fc sc fs D H n A P r σ τ) (hμ : μ A = 9) (hB : m - A ≤ B) (hn : n ≤ 8 * A + 1) (hd : 12 * (40 - D) + 20 + 10 ≤ d) (hs : ∀ τe, (∀ dm, rn L xs (dm + 7) 311 206 [.ref 123, .int (i32 A), jv] [] τ = some (.inl none, τe)) → mS L xs τs τe) :
    OUTI L xs K1 K2 τs (rn L xs d 123 0 [.ref 62, jv, jv, jv, jv, jv, jv] [] σ) (NTQ K1 K2 m μ g fc sc fs D H n r A P σ τ) := by
  obtain ⟨d, rfl⟩ : ∃ d', d = d' + 5 := ⟨d - 5, by omega⟩
  obtain ⟨o1, o2, o3, o4, ⟨o5, o5'⟩, o6, ⟨s1, s2, s3, s4, s5, s6, s7, s8, s9, s10, s11, s12⟩, o8, o9, o10⟩ := h.all
  have hlt := h.lt (by omega)
  have hws := wch_succ μ A
  have hu : uch (μ A) = 1 := by rw [hμ]; rfl
  have hO : rd σ 62 6 = ohl σ sc := by obtain ⟨F, _, _, hO, _⟩ := h; exact hO
  have h1 := h.at1 hlt
  have hold1 : OLD n r H P σ τ (wr σ 62 3 (i32 (A + 1 : Nat))) (wr τ 123 17 (i32 (A + 1 : Nat))) := (OLD.refl.wrC (Or.inl rfl)).wrM (by omega)
  rw [e123_0 (d + 4), s1, i32_n1]
  have x5 : rd (wr σ 62 3 (i32 (A + 1 : Nat))) 62 5 = rd σ 62 5 := by rw [rd_wr, if_neg (by omega)]
  have x6 : rd (wr σ 62 3 (i32 (A + 1 : Nat))) 62 6 = rd σ 62 6 := by rw [rd_wr, if_neg (by omega)]
  rw [← x5]
  have hms : ∀ τe, (∀ dm, bI (rn L xs (dm + 6) 306 0 [.ref 123, jv, jv] [] (wr τ 123 17 (i32 (A + 1 : Nat)))) (fun a2 s1 => cond (pv_c1 .ne (rd s1 123 5)) (some (.inl none, s1)) (bI (rn L xs (dm + 6) 303 0 [.ref 123, .int 28] [] s1) (fun a4 s3 => cond (pv_c1 .eq a4) (some (.inl none, s3)) (bV (rn L xs (dm + 6) 309 0 [.ref 123, .int 27, .int (i32 A), .int a2] [] s3) (fun s5 => bV (rn L xs (dm + 6) 309 0 [.ref 123, .int 1, .int 0, .int 0] [] s5) (fun s6 => bV (rn L xs (dm + 6) 309 0 [.ref 123, .int 26, .int a2, .int 0] [] s6) (fun s7 => bV (rn L xs (dm + 6) 309 0 [.ref 123, .int 14, .int 10, .int 0] [] s7) (fun s8 => bV (rn L xs (dm + 6) 309 0 [.ref 123, .int 1, .int 0, .int 0] [] s8) (fun s9 => some (.inl none, s9)) X0) X0) X0) X0) X0)) X0)) X0 = some (.inl none, τe)) → mS L xs τs τe := by
    intro τe he
    refine hs _ (fun dm => ?_)
    rw [e311_206 (dm + 6), s2, i32_n1]
    simp only [e311_357]
    exact he dm
  obtain ⟨V, g1, g2, g3, g4, g5⟩ := h1.cvarN (L := L) (xs := xs)
  have hgx : ∀ x : Int32, rd (wr σ 62 3 (i32 (A + 1 : Nat))) 62 5 = x → rd σ 62 5 = x := fun x hx => x5.symm.trans hx
  generalize hσ2 : wr σ 62 3 (i32 (A + 1 : Nat)) = σ2 at *
  generalize wr τ 123 17 (i32 (A + 1 : Nat)) = τ2 at *
  by_cases q : vck σ2 (μ (A + 1)) (A + 1) g fc sc = 0
  · obtain ⟨k1, k2, k3, k4⟩ := g5 q
    rw [bI_ok ((g3 d).trans (if_pos q))]
    have h306 := fun dm => (g4 (dm + 4)).trans (if_pos q)
    generalize cVar σ2 (A + 1) V (rd σ2 62 5) sc.length = σ3 at *
    generalize mVar τ2 (A + 1) V = τ3 at *
    obtain ⟨p1, p2, p3, p4, ⟨p5, p5'⟩, p6, ⟨r1, r2, r3, r4, r5, r6, r7, r8, r9, r10, r11, r12⟩, p8, p9, p10⟩ := k2.all
    have hmsg := k2.ms (L := L) (xs := xs) (x := 61) (k := 28) rfl (by omega) (by omega) d
    have hn5 : rd τ3 123 5 = 0 := p3
    by_cases q2 : μ (A + 1 + 1) = 28
    · rw [if_pos q2] at hmsg
      rw [bV_ok hmsg]
      have hlt2 := k2.lt (by omega)
      have hmS : mS L xs τs (mPush (mPush (mPush (mPush (mPush (wr τ3 123 17 (i32 (A + 1 + 1 + 1 : Nat))) n 27 (i32 A) (i32 V)) (n + 1) 1 0 0) (n + 2) 26 (i32 V) 0) (n + 3) 14 10 0) (n + 4) 1 0 0) := by
        refine hms _ (fun dm => ?_)
        have ht := k2.take (L := L) (xs := xs) (x := 28) (k := 28) rfl (by omega) (dm + 4)
        rw [if_pos q2] at ht
        rw [bI_ok (h306 dm), hn5, show pv_c1 .ne (0 : Int32) = false from rfl, cond_false, bI_ok ht, show pv_c1 .eq (1 : Int32) = false from rfl, cond_false, bV_ok (mpush_ok (n := n) (by rw [rd_wr, if_neg (by omega)]; exact r6) (by omega) (dm + 5) _ _ _), bV_ok (mpush_ok (n := n + 1) mPush_come (by omega) (dm + 5) _ _ _), bV_ok (mpush_ok (n := n + 2) mPush_come (by omega) (dm + 5) _ _ _), bV_ok (mpush_ok (n := n + 3) mPush_come (by omega) (dm + 5) _ _ _), bV_ok (mpush_ok (n := n + 4) mPush_come (by omega) (dm + 5) _ _ _)]
      refine OUTI.pre hmS ?_
      have h4 := (((((k2.at1 hlt2).push (by omega) 27 (i32 A) (i32 V)).push (by omega) 1 0 0).push (by omega) 26 (i32 V) 0).push (by omega) 14 10 0).push (by omega) 1 0 0
      have hold4 : OLD n r H P σ3 τ3 (wr σ3 62 3 (i32 (A + 1 + 1 + 1 : Nat))) (mPush (mPush (mPush (mPush (mPush (wr τ3 123 17 (i32 (A + 1 + 1 + 1 : Nat))) n 27 (i32 A) (i32 V)) (n + 1) 1 0 0) (n + 2) 26 (i32 V) 0) (n + 3) 14 10 0) (n + 4) 1 0 0) := ((((((OLD.refl.wrC (Or.inl rfl)).wrM (by omega)).push (by omega)).push (by omega)).push (by omega)).push (by omega)).push (by omega)
      have i5 : IT (mPush (mPush (mPush (mPush (mPush (wr τ3 123 17 (i32 (A + 1 + 1 + 1 : Nat))) n 27 (i32 A) (i32 V)) (n + 1) 1 0 0) (n + 2) 26 (i32 V) 0) (n + 3) 14 10 0) (n + 4) 1 0 0) (n + 4) 1 0 0 := IT.at rfl
      have i4 : IT (mPush (mPush (mPush (mPush (mPush (wr τ3 123 17 (i32 (A + 1 + 1 + 1 : Nat))) n 27 (i32 A) (i32 V)) (n + 1) 1 0 0) (n + 2) 26 (i32 V) 0) (n + 3) 14 10 0) (n + 4) 1 0 0) (n + 3) 14 10 0 := (IT.at rfl).push (by omega)
      have i3 : IT (mPush (mPush (mPush (mPush (mPush (wr τ3 123 17 (i32 (A + 1 + 1 + 1 : Nat))) n 27 (i32 A) (i32 V)) (n + 1) 1 0 0) (n + 2) 26 (i32 V) 0) (n + 3) 14 10 0) (n + 4) 1 0 0) (n + 2) 26 (i32 V) 0 := ((IT.at rfl).push (by omega)).push (by omega)
      have i2 : IT (mPush (mPush (mPush (mPush (mPush (wr τ3 123 17 (i32 (A + 1 + 1 + 1 : Nat))) n 27 (i32 A) (i32 V)) (n + 1) 1 0 0) (n + 2) 26 (i32 V) 0) (n + 3) 14 10 0) (n + 4) 1 0 0) (n + 1) 1 0 0 := (((IT.at rfl).push (by omega)).push (by omega)).push (by omega)
      have i1 : IT (mPush (mPush (mPush (mPush (mPush (wr τ3 123 17 (i32 (A + 1 + 1 + 1 : Nat))) n 27 (i32 A) (i32 V)) (n + 1) 1 0 0) (n + 2) 26 (i32 V) 0) (n + 3) 14 10 0) (n + 4) 1 0 0) n 27 (i32 A) (i32 V) := ((((IT.at rfl).push (by omega)).push (by omega)).push (by omega)).push (by omega)
      generalize mPush (mPush (mPush (mPush (mPush (wr τ3 123 17 (i32 (A + 1 + 1 + 1 : Nat))) n 27 (i32 A) (i32 V)) (n + 1) 1 0 0) (n + 2) 26 (i32 V) 0) (n + 3) 14 10 0) (n + 4) 1 0 0 = τ4 at h4 hold4 i1 i2 i3 i4 i5
      generalize wr σ3 62 3 (i32 (A + 1 + 1 + 1 : Nat)) = σ4 at h4 hold4
      have k34 := k3.old hold4
      -- what is bound
      refine OUTI.bI (hE sc fs D H (n + 4) (A + 1 + 1 + 1) P r σ4 τ4 (d + 4) h4 i5.1 (by omega) (by omega) (by omega)) (fun a σ5 τ5 hQ => ?_)
      obtain ⟨A1, P1, y1, y2, ⟨t1, t2, t3, t4, t5, t6, t7, t8⟩, y4, y5, y6⟩ := hQ
      subst y1
      have hN5 := k34.old y6
      obtain ⟨_, _, _, _, _, _, ⟨y21, y22, y23, y24, y25, y26, y27, y28, y29, y210, y211, y212⟩, _⟩ := y2.all
      refine OUTV.bV (lx_ok2 (k := 10) y2 (IT.old y6 (by omega) i4) (by omega) (y2.mw (x := 7) (w := 7) rfl (by omega) (d + 1))) (fun σ6 τ6 hW => ?_)
      obtain ⟨b1, b2, b3, b4⟩ := hW
      have hold6 : OLD (n + 3) r H P σ4 τ4 σ6 τ6 := by
        rw [b3, b4]
        exact ((((y6.mono (by omega) (Nat.le_refl _) (Nat.le_refl _) (Nat.le_refl _)).wrC (Or.inl rfl)).wrM (by omega)).wrM (by omega))
      have b2' : A1 < m := b2
      -- the scope is opened
      have hC6 : agC σ5 σ6 := by rw [b3]; exact agC.refl.wr rfl
      have hM6 : agM τ5 (wr τ6 123 18 (i32 (n + 2 : Nat))) := by rw [b4]; exact ((agM.refl.wr rfl).wr rfl).wr rfl
      have hN5' : NV V sc (rd σ5 62 5) (rd σ5 62 6) σ5 := by
        rw [h1.s5 y2, h1.s6 y2]; exact hN5
      obtain ⟨S, j1, ⟨jS1, jS2⟩, j2⟩ := y2.opn (L := L) (xs := xs) (v := V) (A' := A1 + 1) (n' := n + 2) (Nat.le_refl _) b2 hC6 hM6 (by rw [b3, wr_self]) (by rw [b4, rd_wr, if_neg (by omega), wr_self]) (by rw [b3, rd_wr, if_neg (by omega)]; exact y23) (by rw [b4, rd_wr, if_neg (by omega), rd_wr, if_neg (by omega), rd_wr, if_neg (by omega)]; exact y24) (by rw [b3, rd_wr, if_neg (by omega)]; exact y25) (by rw [wr_self]) (by omega) (by rw [b4, rd_wr, if_neg (by omega), rd_wr, if_neg (by omega), rd_wr, if_neg (by omega)]; exact y27) hN5' (by rw [OLDe.x144 y6, OLDe.x144 hold4, k4.x144]; exact h1.v0 g2 (by omega))
      have hmS6 : mS L xs τ6 (mOpen (wr τ6 123 18 (i32 (n + 2 : Nat))) V sc.length S) := by
        have z18 : rd τ6 123 18 = i32 (n + 2 + 1 : Nat) := by rw [b4, rd_wr, if_neg (by omega), wr_self]
        refine nx z18 (by omega) ?_ (IT.old hold6 (by omega) i3) (pc := 322) (by decide +kernel) (fun dm => ?_)
        · rw [b4, rd_wr, if_neg (by omega), rd_wr, if_neg (by omega)]; exact y2.all.2.2.1
        · rw [e310_322 (dm + 7), bV_ok (j1 (dm + 6)), e310_362]
      refine OUTI.pre hmS6 ?_
      have hold7 : OLD (n + 2) r H P σ4 τ4 (wr σ6 62 5 (i32 V)) (mOpen (wr τ6 123 18 (i32 (n + 2 : Nat))) V sc.length S) := OLD.opn jS1 jS2 ((hold6.mono (by omega) (Nat.le_refl _) (Nat.le_refl _) (Nat.le_refl _)).wrM (by omega))
      have hold67 : OLD (n + 2) (r + 1) H P1 σ5 τ5 (wr σ6 62 5 (i32 V)) (mOpen (wr τ6 123 18 (i32 (n + 2 : Nat))) V sc.length S) := by
        refine OLD.opn jS1 jS2 (OLD.wrM ?_ (by omega))
        rw [b3, b4]
        exact ((OLD.refl.wrC (Or.inl rfl)).wrM (by omega)).wrM (by omega)
      have w5e : rd (wr σ6 62 5 (i32 V)) 62 5 = i32 V := wr_self _ _ _ _
      generalize mOpen (wr τ6 123 18 (i32 (n + 2 : Nat))) V sc.length S = τ7 at j2 hold7 hold67
      generalize wr σ6 62 5 (i32 V) = σ7 at j2 hold7 hold67 w5e
      have hws1 := wch_mono μ (show A1 ≤ A1 + 1 by omega)
      -- where it is in scope
      refine OUTI.bI (hE (V :: sc) fs D H (n + 1) (A1 + 1) P1 (r + 1) σ7 τ7 (d + 4) j2 (IT.old hold7 (by omega) i2).1 (by omega) (by omega) (by omega)) (fun a σ8 τ8 hQ => ?_)
      obtain ⟨A2, P2, w1, w2, ⟨v1, v2, v3, v4, v5, v6, v7, v8⟩, w4, w5, w6⟩ := hQ
      subst w1
      obtain ⟨c1, c2, c3, c4, ⟨c5, c5'⟩, c6, ⟨e1, e2, e3, e4, e5, e6, e7, e8, e9, e10, e11, e12⟩, c8, c9, c10⟩ := w2.all
      have hold8 : OLD (n + 1) r H P σ4 τ4 σ8 τ8 := (hold7.mono (by omega) (Nat.le_refl _) (Nat.le_refl _) (Nat.le_refl _)).trans (w6.mono (Nat.le_refl _) (by omega) (Nat.le_refl _) (by omega)) (Nat.le_refl _) (Nat.le_refl _) (Nat.le_refl _) (Nat.le_refl _)
      have hold58 : OLD (n + 1) (r + 1) H P1 σ5 τ5 σ8 τ8 := (hold67.mono (by omega) (Nat.le_refl _) (Nat.le_refl _) (Nat.le_refl _)).trans (w6.mono (Nat.le_refl _) (Nat.le_refl _) (Nat.le_refl _) (Nat.le_refl _)) (Nat.le_refl _) (Nat.le_refl _) (Nat.le_refl _) (Nat.le_refl _)
      have hN8 := hN5.old hold58
      have hpop := w2.pop
      have h5' : rd σ2 62 5 = rd σ 62 5 := x5
      have h6' : rd σ2 62 6 = rd σ 62 6 := x6
      -- it is closed
      have hch8 : chC σ8 sc (rd σ2 62 5) := by
        have := w2.ch
        have hh := this.2.2.2
        rw [hN8.2.1] at hh
        exact hh
      have hoh8 : rd σ8 62 6 = ohl σ8 sc := h1.ohO w2 (OLDe.trans (E' := []) k4 (hold4.trans (hold8.mono (by omega) (Nat.le_refl _) (Nat.le_refl _) (Nat.le_refl _)) (Nat.le_refl _) (Nat.le_refl _) (Nat.le_refl _) (Nat.le_refl _)) (Nat.le_refl _) (Nat.le_refl _) (Nat.le_refl _) (Nat.le_refl _))
      obtain ⟨s, l1, l2, l3, l4, l5⟩ := hpop.close (x := rd σ2 62 5) h.suf hch8 hoh8
      have hw3 := wch_mono μ (show A + 1 ≤ A + 1 + 1 + 1 by omega)
      rw [h5'] at l5
      have T1 : PT P (P1 - 1) (wr σ8 62 5 (rd σ 62 5)) := by
        obtain ⟨f1, f2, f3, f4, f5, f6⟩ := t8
        have e := hold58.2.2.2.1 (P1 - 1) (by omega)
        have e' : ∀ j, j ≠ 62 → rd (wr σ8 62 5 (rd σ 62 5)) j (P1 - 1) = rd σ8 j (P1 - 1) := fun j hj => wr_nek hj
        exact ⟨f1, (e' 26 (by omega)).trans ((e 26 (by omega) (by omega)).trans f2), (e' 24 (by omega)).trans ((e 24 (by omega) (by omega)).trans f3), (e' 25 (by omega)).trans ((e 25 (by omega) (by omega)).trans f4), (e' 23 (by omega)).trans ((e 23 (by omega) (by omega)).trans f5), ((e' 28 (by omega)).trans ((e 28 (by omega) (by omega)).trans f6)).trans (by rw [wr_self, h1.s5 y2, h5'])⟩
      have T2 : rd (wr σ8 62 5 (rd σ 62 5)) 26 (P2 - 1) = i32 P1 ∧ rd (wr σ8 62 5 (rd σ 62 5)) 24 (P2 - 1) = i32 (-1) ∧ rd (wr σ8 62 5 (rd σ 62 5)) 28 (P2 - 1) = i32 V := by
        obtain ⟨f1, f2, f3, f4, f5, f6⟩ := v8
        refine ⟨(wr_nek (by omega)).trans f2, (wr_nek (by omega)).trans f3, ((wr_nek (by omega)).trans f6).trans ?_⟩
        rw [j2.s5 w2, w5e]
      have hB2 := v8.1
      have hN9 : NV V sc (rd σ2 62 5) (rd σ2 62 6) (wr σ8 62 5 (rd σ 62 5)) := hN8
      have hch9 : chC (wr σ8 62 5 (rd σ 62 5)) (V :: sc) (i32 V) := by
        have := w2.ch
        rw [j2.s5 w2, w5e] at this
        exact this.congr _ _ (fun u _ => ⟨wr_nek (by omega), wr_nek (by omega)⟩)
      have g15 : rd (wr σ8 62 5 (rd σ 62 5)) 15 13 = i32 P2 := (wr_nek (by omega)).trans c5
      have g62 : ∀ i, i ≠ 5 → rd (wr σ8 62 5 (rd σ 62 5)) 62 i = rd σ8 62 i := fun i hi => wr_nei hi
      have g63 : ∀ i, rd (wr σ8 62 5 (rd σ 62 5)) 63 i = rd σ8 63 i := fun i => wr_nek (by omega)
      have h95 : rd (wr σ8 62 5 (rd σ 62 5)) 62 5 = rd σ 62 5 := wr_self _ _ _ _
      have hold89 : OLD n r H P σ8 τ8 (wr σ8 62 5 (rd σ 62 5)) (wr (wr (wr τ8 123 18 (i32 n)) 123 40 (i32 sc.length)) 123 43 (rd (wr τ8 123 18 (i32 n)) 150 s)) := (((OLD.refl.wrC (Or.inl rfl)).wrM (by omega)).wrM (by omega)).wrM (by omega)
      have hR9 : RF A P P2 (wr σ8 62 5 (rd σ 62 5)) := (((t1.2.mid hold58).app v1.2 (by omega)).lo (by omega)).to (fun q _ => wr_nek (by omega))
      rw [h5', v4]
      have hkn1 := T1.2.2.1
      have hB1 := T1.1
      generalize hσ9 : wr σ8 62 5 (rd σ 62 5) = σ9 at *
      obtain ⟨σ10, nC, hrun⟩ := pad2 (L := L) (xs := xs) (σ := σ9) (κ := 19) (x := 19) (P := P2) (c1 := P1 - 1) (c2 := P2 - 1) (s1 := P) (s2 := P1) (f := i32 A) (l := i32 (A2 - 1 : Nat)) (s := rd σ 62 5) (r1 := 10) (r2 := 0) rfl g15 (by omega) (by omega) (by omega) T1.2.1 T2.1 hB1 (by omega) (by omega) rfl rfl (d + 1)
      have e := hrun (fun a10 s12 => cond (pv_in a10 4101) (some (.inl (some (.int a10)), wr (wr s12 27 (ix a10) (i32 V)) 62 8 (i32 A))) none)
      rw [c_in (by omega) (by omega) (by omega), i32_ixn (by omega)] at e
      refine e.symm ▸ ?_
      have hsc : ∀ i, i ≠ 8 → rd (wr (wr σ10 27 P2 (i32 V)) 62 8 (i32 A)) 62 i = rd σ9 62 i := fun i hi => by rw [rd_wr, if_neg (by omega), wr_nek (by omega)]; exact nC.2.1 62 i rfl (by omega)
      have h27 : rd (wr (wr σ10 27 P2 (i32 V)) 62 8 (i32 A)) 27 P2 = i32 V := by rw [wr_nek (by omega), wr_self]
      have h31 : ∀ i, rd (wr (wr σ10 27 P2 (i32 V)) 62 8 (i32 A)) 31 i = rd σ9 31 i := fun i => by rw [wr_nek (by omega), wr_nek (by omega)]; exact nC.2.1 31 i rfl (by omega)
      have h15 : rd (wr (wr σ10 27 P2 (i32 V)) 62 8 (i32 A)) 15 19 = rd σ9 15 19 := by rw [wr_nek (by omega), wr_nek (by omega)]; exact nC.2.1 15 19 rfl (by omega)
      have q7 : ∀ j i, ¬ (j = 123 ∧ (i = 18 ∨ i = 40 ∨ i = 43)) → rd (wr (wr (wr τ8 123 18 (i32 n)) 123 40 (i32 sc.length)) 123 43 (rd (wr τ8 123 18 (i32 n)) 150 s)) j i = rd τ8 j i := fun j i hj => by rw [rd_wr, if_neg (by omega), rd_wr, if_neg (by omega), rd_wr, if_neg (by omega)]
      obtain ⟨τ10, f1, f2, f3, f4, f5, f6⟩ := m2_run (L := L) (xs := xs) (τ := wr (wr (wr τ8 123 18 (i32 n)) 123 40 (i32 sc.length)) 123 43 (rd (wr τ8 123 18 (i32 n)) 150 s)) (r := r) (P := P2) (c1 := P1 - 1) (c2 := P2 - 1) (s1 := P) (s2 := P1) (x := 12) (f := i32 A) (w := i32 V) ((q7 _ _ (by omega)).trans e7) (by omega) ((q7 _ _ (by omega)).trans c5') (by omega) ((q7 _ _ (by omega)).trans ((hold58.2.1 r (by omega) 135 (by omega) (by omega)).trans t5)) ((q7 _ _ (by omega)).trans v5) (by omega) (by omega) (l5.s161 (by omega) T1.2.1) (l5.s161 (by omega) T2.1) hB1 (by omega) (by omega)
      have hmS8 : mS L xs τ8 (mBec τ10 r P2) := by
        refine nx e6 (by omega) c3 (IT.old hold8 (by omega) i1) (pc := 355) (by decide +kernel) (fun dm => ?_)
        rw [e310_355 (dm + 7), bV_ok (r := rn L xs (dm + 7) 324 0 _ _ _) (σ := mBec τ10 r P2), e310_362]
        rw [e324_0 (dm + 6), swk_of (p := 316) (by decide +kernel), e324_316 (dm + 6), bV_ok (r := rn L xs (dm + 6) 329 0 _ _ _) (σ := mBec τ10 r P2), e324_323]
        have hcl : rn L xs (dm + 5) 328 0 [.ref 123, .int 1, jv] [] (wr τ8 123 18 (i32 n)) = some (.inl none, wr (wr (wr τ8 123 18 (i32 n)) 123 40 (i32 sc.length)) 123 43 (rd (wr τ8 123 18 (i32 n)) 150 s)) := by
          rw [e328_0 (dm + 4), show (0 : Int32) = i32 ((0 : Nat) : Int) from rfl, close_step (x1 := 1) (w := 1) l1 l2 l3 rfl (by omega) (by omega) (dm + 4)]
          exact close_end (x1 := 1) (w := 1) rfl (by omega) (dm + 4)
        rw [e329_0 (dm + 5), show pv_c2 .ne (i32 ((27 : Nat) : Int)) 27 = false from rfl, cond_false, bV_ok hcl, e329_11 (dm + 5), show pv_c2 .ne (i32 ((27 : Nat) : Int)) 29 = true from rfl, cond_true, e329_22 (dm + 5), show pv_c2 .ne (i32 ((27 : Nat) : Int)) 27 = false from rfl, cond_false, e329_33 (dm + 5), show pv_c2 .ne (i32 ((27 : Nat) : Int)) 25 = true from rfl, cond_true, e329_47 (dm + 5), show pv_c2 .ne (i32 ((27 : Nat) : Int)) 27 = false from rfl, cond_false]
        exact f6 (dm + 2) _ _
      have f1 : nodM (wr (wr (wr τ8 123 18 (i32 n)) 123 40 (i32 sc.length)) 123 43 (rd (wr τ8 123 18 (i32 n)) 150 s)) τ10 P2 (i32 (mKd 19)) (i32 A) (i32 (A2 - 1 : Nat)) P [P1 - 1, P2 - 1] := by
        rw [q7 137 (r + 1) (by omega), v7] at f1
        exact f1
      have hVV : V ≤ 3000 := by omega
      have nC' : nodC σ9 σ10 P2 19 (i32 A) (i32 (A2 - 1 : Nat)) (rd σ9 62 5) P [P1 - 1, P2 - 1] := by rw [h95]; exact nC
      obtain ⟨g1, g2, g3⟩ := form_ok (σ' := wr (wr σ10 27 P2 (i32 V)) 62 8 (i32 A)) (κ := 19) (A0 := A) (A2 := A2) (P0 := P) (kids := [P1 - 1, P2 - 1]) (r := r) l5 (Or.inr (Or.inl rfl)) ⟨T1.2.1, hB1, by omega, by rw [show P1 - 1 + 1 = P1 by omega]; exact T2.1, by omega, by omega, by show P2 - 1 + 1 = P2; omega⟩
        (fun c hc => by
          rcases List.mem_cons.mp hc with e | e
          · rw [e]; exact hkn1
          · rw [List.mem_singleton.mp e]; exact T2.2.1) rfl
        (fun w c hw2 => by
          match w, hw2 with
          | 0, hw2 =>
            have hw2 : P1 - 1 = c := Option.some.inj hw2
            rw [← hw2, T1.2.2.2.2.2]
            exact l5.ch
          | 1, hw2 =>
            have hw2 : P2 - 1 = c := Option.some.inj hw2
            have hsl : scl 19 1 (wr (wr σ10 27 P2 (i32 V)) 62 8 (i32 A)) P2 = [V] := by
              unfold scl
              rw [if_neg (by omega), if_pos ⟨rfl, rfl⟩, h27, i32_ixn (by omega)]
            rw [← hw2, T2.2.2, hsl]
            exact hch9
          | k + 2, hw2 => exact absurd (getq_lt hw2) (by show ¬ (k + 2 < 2); omega))
        ⟨fun _ => ⟨by rw [h27, i32_ixn (by omega), h15]; exact hN9.1, by
            rw [h27, i32_ixn (by omega), h31, hN9.2.2.2.1, h6', hO]
            have := hoh8
            rw [h1.s6 w2, h6', hO] at this
            rw [this]
            cases sc with
            | nil => rfl
            | cons u t => show rd σ8 31 u = rd (wr (wr σ10 27 P2 (i32 V)) 62 8 (i32 A)) 31 u; rw [h31, ← hσ9, wr_nek (by omega)]⟩, fun q => absurd q (by omega), fun q => absurd q (by omega)⟩ (by omega) (by omega) nC' ⟨fun j i h1 h2 => by rw [rd_wr, if_neg (fun q => by rw [q.1, q.2] at h2; cases h2), rd_wr, if_neg (fun q => h1 ⟨q.2, Or.inr q.1⟩)], rfl⟩ (by rw [rd_wr, if_pos ⟨rfl, rfl⟩]) ((hsc 9 (by omega)).trans ((g62 9 (by omega)).trans v4)) ((hsc 3 (by omega)).trans ((g62 3 (by omega)).trans e1)) ((hsc 4 (by omega)).trans ((g62 4 (by omega)).trans e3)) ((hsc 11 (by omega)).trans ((g62 11 (by omega)).trans e5)) (fun i hi => by rw [wr_nek (by omega), wr_nek (by omega)]; exact nC.2.1 63 i rfl (by omega)) f1
        (fun w hw => by
          have : w = 0 ∨ w = 1 ∨ w = 2 := by omega
          rcases this with e | e | e <;> subst e
          · exact f2
          · exact f3
          · exact f4) (fun q => f5.trans h27.symm) (nnR_27 (by omega) h27 (by omega)) hR9 (fun v hv => hv.only (κ := 19) (V := V) (by rw [wr_nek (by omega), wr_nek (by omega)]; exact nC.2.2.1.1) (by omega) (Or.inr ⟨rfl, h27⟩))
      refine Or.inl ⟨_, _, _, rfl, hmS8, A2, P2 + 1, rfl, g1, g2, by omega, w5, ?_⟩
      refine OLDe.bind (E := [V]) (OLDe.trans (E := []) hold1 (OLDe.trans (E' := []) k4 (hold4.trans ((hold8.mono (by omega) (Nat.le_refl _) (Nat.le_refl _) (Nat.le_refl _)).trans hold89 (Nat.le_refl _) (Nat.le_refl _) (Nat.le_refl _) (Nat.le_refl _)) (Nat.le_refl _) (Nat.le_refl _) (Nat.le_refl _) (Nat.le_refl _)) (Nat.le_refl _) (Nat.le_refl _) (Nat.le_refl _) (Nat.le_refl _)) (Nat.le_refl _) (Nat.le_refl _) (Nat.le_refl _) (Nat.le_refl _)) g3 (Nat.le_refl _) (Nat.le_refl _) (Nat.le_refl _) (Nat.le_refl _) (fun v hv => hv) (fun v hv => ⟨P2, ?_, by rw [List.mem_singleton.mp hv]; omega, Or.inr (Or.inl ⟨?_, by rw [List.mem_singleton.mp hv]; exact h27⟩)⟩)
      · rw [wr_nek (by omega), wr_nek (by omega), nC.2.2.2.2.2.1, i32_ixn (by omega)]; omega
      · rw [wr_nek (by omega), wr_nek (by omega)]; exact nC.2.2.1.1
    · rw [if_neg q2] at hmsg
      rw [bV_ex hmsg]
      refine Or.inr (FLT.mk' (τ1 := τ3) k2 r8 (k := 2) (by decide) rfl ?_)
      refine hms _ (fun dm => ?_)
      have ht := k2.take (L := L) (xs := xs) (x := 28) (k := 28) rfl (by omega) (dm + 4)
      rw [if_neg q2] at ht
      rw [bI_ok (h306 dm), hn5, show pv_c1 .ne (0 : Int32) = false from rfl, cond_false, bI_ok ht, show pv_c1 .eq (0 : Int32) = true from rfl, cond_true]
  · rw [bI_ex ((g3 d).trans (if_neg q))]
    have hq6 := vck_le (σ := σ2) (a := μ (A + 1)) (A := A + 1) (g := g) (fc := fc) (l := sc)
    refine Or.inr (FLT.mk' (τ1 := τ2) h1 (by omega) (i32_ne0 q hq6) rfl ?_)
    refine hms _ (fun dm => ?_)
    rw [bI_ok ((g4 (dm + 4)).trans (if_neg q)), mFlt_5, (c1_nz q hq6).1, cond_true]
end LET
