/-! READING: cases, fns -/
section FNS
variable {L : Nat} {xs : Nat → Int32} {K1 K2 m : Nat} {μ : Nat → Nat} {g fc : Nat} {sc : List Nat} {fs fs' : List (Nat × Nat × List Nat)} {F D H n A P r r0 : Nat} {σ τ σ' τ' σ1 τ1 : tvS}
theorem case_ok {B d : Nat} {τs : tvS} (hE : NT L xs K1 K2 m μ g fc 1 119 0 0 [jv] B) (h : ST K1 K2 m μ g fc sc fs D H n A P r σ τ) (hμ : μ A = 11) (hB : m - A ≤ B) (hn : n ≤ 8 * A + 1) (hd : 12 * (40 - D) + 20 + 11 ≤ d) (hs : ∀ τe, (∀ dm, rn L xs (dm + 7) 311 279 [.ref 123, .int (i32 A), jv] [] τ = some (.inl none, τe)) → mS L xs τs τe) :
    OUTI L xs K1 K2 τs (rn L xs d 124 0 [.ref 62, jv, jv, jv, jv, jv, jv, jv, jv] [] σ) (NTQ K1 K2 m μ g fc sc fs D H n r A P σ τ) := by
  obtain ⟨d, rfl⟩ : ∃ d', d = d' + 5 := ⟨d - 5, by omega⟩
  obtain ⟨o1, o2, o3, o4, ⟨o5, o5'⟩, o6, ⟨s1, s2, s3, s4, s5, s6, s7, s8, s9, s10, s11, s12⟩, o8, o9, o10⟩ := h.all
  have hlt := h.lt (by omega)
  have hws := wch_succ μ A
  have hu : uch (μ A) = 1 := by rw [hμ]; rfl
  have h1 := h.at1 hlt
  have hmS : mS L xs τs (mPush (mPush (mPush (mPush (mPush (mPush (mPush (wr τ 123 17 (i32 (A + 1 : Nat))) n 28 (i32 A) 0) (n + 1) 14 35 0) (n + 2) 1 0 0) (n + 3) 14 20 0) (n + 4) 14 13 0) (n + 5) 14 12 0) (n + 6) 1 0 0) := by
    refine hs _ (fun dm => ?_)
    rw [e311_279 (dm + 6), s2, i32_n1, bV_ok (mpush_ok (n := n) (by rw [rd_wr, if_neg (by omega)]; exact s6) (by omega) (dm + 5) _ _ _), bV_ok (mpush_ok (n := n + 1) mPush_come (by omega) (dm + 5) _ _ _), bV_ok (mpush_ok (n := n + 2) mPush_come (by omega) (dm + 5) _ _ _), bV_ok (mpush_ok (n := n + 3) mPush_come (by omega) (dm + 5) _ _ _), bV_ok (mpush_ok (n := n + 4) mPush_come (by omega) (dm + 5) _ _ _), bV_ok (mpush_ok (n := n + 5) mPush_come (by omega) (dm + 5) _ _ _), bV_ok (mpush_ok (n := n + 6) mPush_come (by omega) (dm + 5) _ _ _), e311_357]
  refine OUTI.pre hmS ?_
  have h2 := ((((((h1.push (by omega) 28 (i32 A) 0).push (by omega) 14 35 0).push (by omega) 1 0 0).push (by omega) 14 20 0).push (by omega) 14 13 0).push (by omega) 14 12 0).push (by omega) 1 0 0
  have hold : OLD n r H P σ τ (wr σ 62 3 (i32 (A + 1 : Nat))) (mPush (mPush (mPush (mPush (mPush (mPush (mPush (wr τ 123 17 (i32 (A + 1 : Nat))) n 28 (i32 A) 0) (n + 1) 14 35 0) (n + 2) 1 0 0) (n + 3) 14 20 0) (n + 4) 14 13 0) (n + 5) 14 12 0) (n + 6) 1 0 0) := ((((((((OLD.refl.wrC (Or.inl rfl)).wrM (by omega)).push (by omega)).push (by omega)).push (by omega)).push (by omega)).push (by omega)).push (by omega)).push (by omega)
  have i7 : IT (mPush (mPush (mPush (mPush (mPush (mPush (mPush (wr τ 123 17 (i32 (A + 1 : Nat))) n 28 (i32 A) 0) (n + 1) 14 35 0) (n + 2) 1 0 0) (n + 3) 14 20 0) (n + 4) 14 13 0) (n + 5) 14 12 0) (n + 6) 1 0 0) (n + 6) 1 0 0 := IT.at rfl
  have i6 : IT (mPush (mPush (mPush (mPush (mPush (mPush (mPush (wr τ 123 17 (i32 (A + 1 : Nat))) n 28 (i32 A) 0) (n + 1) 14 35 0) (n + 2) 1 0 0) (n + 3) 14 20 0) (n + 4) 14 13 0) (n + 5) 14 12 0) (n + 6) 1 0 0) (n + 5) 14 12 0 := (IT.at rfl).push (by omega)
  have i5 : IT (mPush (mPush (mPush (mPush (mPush (mPush (mPush (wr τ 123 17 (i32 (A + 1 : Nat))) n 28 (i32 A) 0) (n + 1) 14 35 0) (n + 2) 1 0 0) (n + 3) 14 20 0) (n + 4) 14 13 0) (n + 5) 14 12 0) (n + 6) 1 0 0) (n + 4) 14 13 0 := ((IT.at rfl).push (by omega)).push (by omega)
  have i4 : IT (mPush (mPush (mPush (mPush (mPush (mPush (mPush (wr τ 123 17 (i32 (A + 1 : Nat))) n 28 (i32 A) 0) (n + 1) 14 35 0) (n + 2) 1 0 0) (n + 3) 14 20 0) (n + 4) 14 13 0) (n + 5) 14 12 0) (n + 6) 1 0 0) (n + 3) 14 20 0 := (((IT.at rfl).push (by omega)).push (by omega)).push (by omega)
  have i3 : IT (mPush (mPush (mPush (mPush (mPush (mPush (mPush (wr τ 123 17 (i32 (A + 1 : Nat))) n 28 (i32 A) 0) (n + 1) 14 35 0) (n + 2) 1 0 0) (n + 3) 14 20 0) (n + 4) 14 13 0) (n + 5) 14 12 0) (n + 6) 1 0 0) (n + 2) 1 0 0 := ((((IT.at rfl).push (by omega)).push (by omega)).push (by omega)).push (by omega)
  have i2 : IT (mPush (mPush (mPush (mPush (mPush (mPush (mPush (wr τ 123 17 (i32 (A + 1 : Nat))) n 28 (i32 A) 0) (n + 1) 14 35 0) (n + 2) 1 0 0) (n + 3) 14 20 0) (n + 4) 14 13 0) (n + 5) 14 12 0) (n + 6) 1 0 0) (n + 1) 14 35 0 := (((((IT.at rfl).push (by omega)).push (by omega)).push (by omega)).push (by omega)).push (by omega)
  have i1 : IT (mPush (mPush (mPush (mPush (mPush (mPush (mPush (wr τ 123 17 (i32 (A + 1 : Nat))) n 28 (i32 A) 0) (n + 1) 14 35 0) (n + 2) 1 0 0) (n + 3) 14 20 0) (n + 4) 14 13 0) (n + 5) 14 12 0) (n + 6) 1 0 0) n 28 (i32 A) 0 := ((((((IT.at rfl).push (by omega)).push (by omega)).push (by omega)).push (by omega)).push (by omega)).push (by omega)
  generalize mPush (mPush (mPush (mPush (mPush (mPush (mPush (wr τ 123 17 (i32 (A + 1 : Nat))) n 28 (i32 A) 0) (n + 1) 14 35 0) (n + 2) 1 0 0) (n + 3) 14 20 0) (n + 4) 14 13 0) (n + 5) 14 12 0) (n + 6) 1 0 0 = τ2 at h2 hold i1 i2 i3 i4 i5 i6 i7
  rw [e124_0 (d + 4), s1, i32_n1]
  generalize wr σ 62 3 (i32 (A + 1 : Nat)) = σ2 at h2 hold
  refine OUTI.bI (hE sc fs D H (n + 6) (A + 1) P r σ2 τ2 (d + 4) h2 i7.1 (by omega) (by omega) (by omega)) (fun a σ3 τ3 hQ => ?_)
  obtain ⟨A1, P1, y1, y2, ⟨t1, t2, t3, t4, t5, t6, t7, t8⟩, y4, y5, y6⟩ := hQ
  subst y1
  refine OUTV.bV (lx_ok (k := 12) y2 (IT.old y6 (by omega) i6) (by omega) (y2.mw (x := 9) (w := 9) rfl (by omega) (d + 1))) (fun σ4 τ4 hW => ?_)
  obtain ⟨_, b2, _, b4, b5⟩ := hW
  have hold4 : OLD (n + 5) r H P σ2 τ2 σ4 τ4 := (y6.mono (by omega) (Nat.le_refl _) (Nat.le_refl _) (Nat.le_refl _)).trans (b5.mono (Nat.le_refl _) (by omega) (Nat.le_refl _) (by omega)) (Nat.le_refl _) (Nat.le_refl _) (Nat.le_refl _) (Nat.le_refl _)
  refine OUTV.bV (lx_ok (k := 13) b4 (IT.old hold4 (by omega) i5) (by omega) (b4.mw (x := 10) (w := 10) rfl (by omega) (d + 1))) (fun σ5 τ5 hW => ?_)
  obtain ⟨_, b2', _, b4', b5'⟩ := hW
  have hold5 : OLD (n + 4) r H P σ2 τ2 σ5 τ5 := (hold4.mono (by omega) (Nat.le_refl _) (Nat.le_refl _) (Nat.le_refl _)).trans (b5'.mono (Nat.le_refl _) (by omega) (Nat.le_refl _) (by omega)) (Nat.le_refl _) (Nat.le_refl _) (Nat.le_refl _) (Nat.le_refl _)
  refine OUTV.bV (lx_ok (k := 20) b4' (IT.old hold5 (by omega) i4) (by omega) (b4'.ms (x := 256) (k := 20) rfl (by omega) (by omega) d)) (fun σ6 τ6 hW => ?_)
  obtain ⟨_, b2'', _, b4'', b5''⟩ := hW
  have hold6 : OLD (n + 3) r H P σ2 τ2 σ6 τ6 := (hold5.mono (by omega) (Nat.le_refl _) (Nat.le_refl _) (Nat.le_refl _)).trans (b5''.mono (Nat.le_refl _) (by omega) (Nat.le_refl _) (by omega)) (Nat.le_refl _) (Nat.le_refl _) (Nat.le_refl _) (Nat.le_refl _)
  have hold36 : OLD (n + 3) (r + 1) H P1 σ3 τ3 σ6 τ6 := (b5.mono (by omega) (Nat.le_refl _) (Nat.le_refl _) (Nat.le_refl _)).trans ((b5'.mono (by omega) (Nat.le_refl _) (Nat.le_refl _) (Nat.le_refl _)).trans (b5''.mono (Nat.le_refl _) (Nat.le_refl _) (Nat.le_refl _) (Nat.le_refl _)) (Nat.le_refl _) (Nat.le_refl _) (Nat.le_refl _) (Nat.le_refl _)) (Nat.le_refl _) (Nat.le_refl _) (Nat.le_refl _) (Nat.le_refl _)
  have hm1 := wch_mono μ (show A1 ≤ A1 + 1 + 1 + 1 by omega)
  refine OUTI.bI (hE sc fs D H (n + 2) (A1 + 1 + 1 + 1) P1 (r + 1) σ6 τ6 (d + 4) b4'' (IT.old hold6 (by omega) i3).1 (by omega) (by omega) (by omega)) (fun a σ7 τ7 hQ => ?_)
  obtain ⟨A2, P2, w1, w2, ⟨v1, v2, v3, v4, v5, v6, v7, v8⟩, w4, w5, w6⟩ := hQ
  subst w1
  have hold7 : OLD (n + 2) r H P σ2 τ2 σ7 τ7 := (hold6.mono (by omega) (Nat.le_refl _) (Nat.le_refl _) (Nat.le_refl _)).trans (w6.mono (Nat.le_refl _) (by omega) (Nat.le_refl _) (by omega)) (Nat.le_refl _) (Nat.le_refl _) (Nat.le_refl _) (Nat.le_refl _)
  refine OUTV.bV (lx_ok (k := 35) w2 (IT.old hold7 (by omega) i2) (by omega) (w2.ms (x := 124) (k := 35) rfl (by omega) (by omega) d)) (fun σ8 τ8 hW => ?_)
  obtain ⟨_, c2, _, c4, c5⟩ := hW
  have hold8 : OLD (n + 1) r H P σ2 τ2 σ8 τ8 := (hold7.mono (by omega) (Nat.le_refl _) (Nat.le_refl _) (Nat.le_refl _)).trans (c5.mono (Nat.le_refl _) (by omega) (Nat.le_refl _) (by omega)) (Nat.le_refl _) (Nat.le_refl _) (Nat.le_refl _) (Nat.le_refl _)
  have hold38 : OLD (n + 1) (r + 1) H P1 σ3 τ3 σ8 τ8 := (hold36.mono (by omega) (Nat.le_refl _) (Nat.le_refl _) (Nat.le_refl _)).trans ((w6.mono (by omega) (Nat.le_refl _) (Nat.le_refl _) (Nat.le_refl _)).trans (c5.mono (Nat.le_refl _) (by omega) (Nat.le_refl _) (by omega)) (Nat.le_refl _) (Nat.le_refl _) (Nat.le_refl _) (Nat.le_refl _)) (Nat.le_refl _) (Nat.le_refl _) (Nat.le_refl _) (Nat.le_refl _)
  have e58 : rd σ8 62 5 = rd σ 62 5 := h.s5 c4
  have e68 : rd σ8 62 6 = rd σ 62 6 := h.s6 c4
  have hm2 := wch_mono μ (show A2 ≤ A2 + 1 + 4 by omega)
  rw [e124_56 (d + 4)]
  refine names_ok hE c4 (IT.old hold8 (by omega) i1) (by omega) (by omega) (by omega) (fun a2 a5 a8 s7 => rn L xs (d + 4 + 1) 124 105 [.ref 62, .int (i32 A), .int (rd σ 62 5), .int (i32 (P1 - 1 : Nat)), .int (i32 (P2 - 1 : Nat)), .int a2, .int a5, .int a8, _] [] (wr s7 62 5 (rd σ 62 5))) (fun V A3 P3 σ9 τ9 k1 k2 k3 k4 k5 k6 k7 k8 k9 k10 k11 k12 k13 => ?_)
  rw [e58, e68] at k10
  rw [e68] at k11
  obtain ⟨p1, p2, p3, p4, ⟨p5, p5'⟩, p6, ⟨r1, r2, r3, r4, r5, r6, r7, r8, r9, r10, r11, r12⟩, p8, p9, p10⟩ := k4.all
  obtain ⟨z1, z2, z3, z4, z5, z6, z7, z8⟩ := k6
  have hpop := k4.pop
  have hch := k4.ch
  rw [k12] at hch
  have hchV : chC σ9 (V :: sc) (i32 V) := by
    have hh := hch.2.2.2
    have e32 : rd σ9 32 (V + 1) = i32 V := by
      have := hch.2.2.2
      have h0 := this.1
      exact h0
    rw [e32] at hh
    exact hh
  have hchS : chC σ9 sc (rd σ 62 5) := by
    have hh := hchV.2.2.2
    rw [k10.2.1] at hh
    exact hh
  have hoh : rd σ9 62 6 = ohl σ9 sc := c4.ohO k4 k9
  obtain ⟨sa, l1, l2, l3, l4, l5⟩ := hpop.close (x := i32 V) (sufF_cons h.suf) hchV (by show rd σ9 62 6 = rd σ9 31 V; rw [k10.2.2.2.1, c4.s6 k4, e68])
  obtain ⟨sb, f1, f2, f3, f4, f5⟩ := l5.close (x := rd σ 62 5) h.suf (hchS.congr _ _ (fun u _ => ⟨wr_nek (by omega), wr_nek (by omega)⟩)) (by
    rw [rd_wr, if_neg (by omega), hoh]
    cases sc with
    | nil => rfl
    | cons u t => exact (wr_nek (by omega)).symm)
  -- the real state
  have hss : ∀ j i, rd (wr σ9 62 5 (rd σ 62 5)) j i = rd (wr (wr σ9 62 5 (i32 V)) 62 5 (rd σ 62 5)) j i := fun j i => by
    by_cases e : j = 62 ∧ i = 5
    · rw [e.1, e.2, wr_self, wr_self]
    · rw [rd_wr, if_neg e, rd_wr, if_neg e, rd_wr, if_neg e]
  obtain ⟨_, _, _, _, _, _, ⟨x1', x2', x3', x4', x5', x6', x7', x8', x9', x10', x11', x12'⟩, _⟩ := f5.all
  have hs10 := f5.ag (σ' := wr σ9 62 5 (rd σ 62 5)) ⟨fun j i _ => hss j i, rfl⟩ agM.refl (Nat.le_refl _) x8' x9' x10' x11' ((hss _ _).trans x1') x2' ((hss _ _).trans x3') x4' ((hss _ _).trans x5') x6' x7'
  have q7 : ∀ j i, ¬ (j = 123 ∧ (i = 18 ∨ i = 40 ∨ i = 43)) → rd (wr (wr (wr (wr (wr τ9 123 18 (i32 n)) 123 40 (i32 (V :: sc).length)) 123 43 (rd (wr τ9 123 18 (i32 n)) 150 sa)) 123 40 (i32 sc.length)) 123 43 (rd (wr (wr (wr τ9 123 18 (i32 n)) 123 40 (i32 (V :: sc).length)) 123 43 (rd (wr τ9 123 18 (i32 n)) 150 sa)) 150 sb)) j i = rd τ9 j i := fun j i hj => by rw [rd_wr, if_neg (by omega), rd_wr, if_neg (by omega), rd_wr, if_neg (by omega), rd_wr, if_neg (by omega), rd_wr, if_neg (by omega)]
  have hclose : ∀ dm, rn L xs (dm + 5) 328 0 [.ref 123, .int 2, jv] [] (wr τ9 123 18 (i32 n)) = some (.inl none, wr (wr (wr (wr (wr τ9 123 18 (i32 n)) 123 40 (i32 (V :: sc).length)) 123 43 (rd (wr τ9 123 18 (i32 n)) 150 sa)) 123 40 (i32 sc.length)) 123 43 (rd (wr (wr (wr τ9 123 18 (i32 n)) 123 40 (i32 (V :: sc).length)) 123 43 (rd (wr τ9 123 18 (i32 n)) 150 sa)) 150 sb)) := fun dm => by
    rw [e328_0 (dm + 4), show (0 : Int32) = i32 ((0 : Nat) : Int) from rfl, close_step (x1 := 2) (w := 2) l1 l2 l3 rfl (by omega) (by omega) (dm + 4), close_step (x1 := 2) (w := 2) f1 f2 f3 rfl (by omega) (by omega) (dm + 4)]
    exact close_end (x1 := 2) (w := 2) rfl (by omega) (dm + 4)
  generalize wr (wr (wr (wr (wr τ9 123 18 (i32 n)) 123 40 (i32 (V :: sc).length)) 123 43 (rd (wr τ9 123 18 (i32 n)) 150 sa)) 123 40 (i32 sc.length)) 123 43 (rd (wr (wr (wr τ9 123 18 (i32 n)) 123 40 (i32 (V :: sc).length)) 123 43 (rd (wr τ9 123 18 (i32 n)) 150 sa)) 150 sb) = τ10 at hs10 q7 hclose
  have g62 : ∀ i, i ≠ 5 → rd (wr σ9 62 5 (rd σ 62 5)) 62 i = rd σ9 62 i := fun i hi => wr_nei hi
  have gj : ∀ j i, j ≠ 62 → rd (wr σ9 62 5 (rd σ 62 5)) j i = rd σ9 j i := fun j i hj => wr_nek hj
  have h95 : rd (wr σ9 62 5 (rd σ 62 5)) 62 5 = rd σ 62 5 := wr_self _ _ _ _
  have rl9 : ∀ j i, rl (wr σ9 62 5 (rd σ 62 5)) j i = rl σ9 j i := fun _ _ => rfl
  generalize wr σ9 62 5 (rd σ 62 5) = σ10 at hs10 g62 gj h95 rl9
  have hold910 : OLD n r H P σ9 τ9 σ10 τ10 := ⟨fun i _ j _ _ => q7 j i (by omega), fun i _ j _ _ => q7 j i (by omega), fun i _ => gj 63 i (by omega), fun p _ j _ _ => gj j p (by omega), fun v _ => ⟨rl9 29 v, gj 31 v (by omega), gj 32 v (by omega), gj 33 v (by omega)⟩, by rw [gj 15 19 (by omega)]; exact Nat.le_refl _, fun j _ i => rl9 j i, OLX.of (fun j i h => gj j i (by omega)) (fun j i h => q7 j i (by omega)), MB.same (fun j i h => gj j i (by omega))⟩
  have hold39 : OLDe [V, V + 1] n (r + 1) H P1 σ3 τ3 σ9 τ9 := OLDe.trans (E := []) (hold38.mono (by omega) (Nat.le_refl _) (Nat.le_refl _) (Nat.le_refl _)) (OLDe.mono k9 (Nat.le_refl _) (by omega) (Nat.le_refl _) (by omega)) (Nat.le_refl _) (Nat.le_refl _) (Nat.le_refl _) (Nat.le_refl _)
  have hold79 : OLDe [V, V + 1] n (r + 2) H P2 σ7 τ7 σ9 τ9 := OLDe.trans (E := []) (c5.mono (by omega) (Nat.le_refl _) (Nat.le_refl _) (Nat.le_refl _)) k9 (Nat.le_refl _) (Nat.le_refl _) (Nat.le_refl _) (Nat.le_refl _)
  have T1 : PT P (P1 - 1) σ10 := by
    obtain ⟨f1, f2, f3, f4, f5, f6⟩ := t8
    have e := hold39.2.2.2.1 (P1 - 1) (by omega)
    exact ⟨f1, (gj 26 _ (by omega)).trans ((e 26 (by omega) (by omega)).trans f2), (gj 24 _ (by omega)).trans ((e 24 (by omega) (by omega)).trans f3), (gj 25 _ (by omega)).trans ((e 25 (by omega) (by omega)).trans f4), (gj 23 _ (by omega)).trans ((e 23 (by omega) (by omega)).trans f5), ((gj 28 _ (by omega)).trans ((e 28 (by omega) (by omega)).trans f6)).trans (by rw [h95]; exact h.s5 y2)⟩
  have T2 : PT P1 (P2 - 1) σ10 := by
    obtain ⟨f1, f2, f3, f4, f5, f6⟩ := v8
    have e := hold79.2.2.2.1 (P2 - 1) (by omega)
    exact ⟨f1, (gj 26 _ (by omega)).trans ((e 26 (by omega) (by omega)).trans f2), (gj 24 _ (by omega)).trans ((e 24 (by omega) (by omega)).trans f3), (gj 25 _ (by omega)).trans ((e 25 (by omega) (by omega)).trans f4), (gj 23 _ (by omega)).trans ((e 23 (by omega) (by omega)).trans f5), ((gj 28 _ (by omega)).trans ((e 28 (by omega) (by omega)).trans f6)).trans (by rw [h95]; exact h.s5 w2)⟩
  have T3 : rd σ10 26 (P3 - 1) = i32 P2 ∧ rd σ10 24 (P3 - 1) = i32 (-1) ∧ rd σ10 28 (P3 - 1) = i32 (V + 1 : Nat) := by
    obtain ⟨f1, f2, f3, f4, f5, f6⟩ := z8
    exact ⟨(gj 26 _ (by omega)).trans f2, (gj 24 _ (by omega)).trans f3, ((gj 28 _ (by omega)).trans f6).trans k12⟩
  have hB1 := T1.1
  have hB2 := T2.1
  have hB3 := z8.1
  have hVV : V + 1 ≤ 3000 := by omega
  rw [e124_105 (d + 4), g62 9 (by omega), z4, h95]
  obtain ⟨σ11, nC, hrun⟩ := pad3 (L := L) (xs := xs) (σ := σ10) (κ := 20) (x := 20) (P := P3) (c1 := P1 - 1) (c2 := P2 - 1) (c3 := P3 - 1) (s1 := P) (s2 := P1) (s3 := P2) (f := i32 A) (l := i32 (A3 - 1 : Nat)) (s := rd σ 62 5) (r1 := 8) (r2 := 0) (r3 := 9) rfl ((gj 15 13 (by omega)).trans p5) (by omega) (by omega) (by omega) (by omega) T1.2.1 T2.2.1 T3.1 hB1 (by omega) (by omega) (by omega) (by omega) rfl rfl rfl (d + 1)
  have e := hrun (fun a2 s5 => cond (pv_in a2 4101) (some (.inl (some (.int a2)), wr (wr s5 27 (ix a2) (i32 V)) 62 8 (i32 A))) none)
  rw [c_in (by omega) (by omega) (by omega), i32_ixn (by omega)] at e
  refine e.symm ▸ ?_
  have hsc : ∀ i, i ≠ 8 → rd (wr (wr σ11 27 P3 (i32 V)) 62 8 (i32 A)) 62 i = rd σ10 62 i := fun i hi => by rw [rd_wr, if_neg (by omega), wr_nek (by omega)]; exact nC.2.1 62 i rfl (by omega)
  have h27 : rd (wr (wr σ11 27 P3 (i32 V)) 62 8 (i32 A)) 27 P3 = i32 V := by rw [wr_nek (by omega), wr_self]
  have h31 : ∀ i, rd (wr (wr σ11 27 P3 (i32 V)) 62 8 (i32 A)) 31 i = rd σ9 31 i := fun i => by rw [wr_nek (by omega), wr_nek (by omega)]; exact (nC.2.1 31 i rfl (by omega)).trans (gj 31 i (by omega))
  have h15 : rd (wr (wr σ11 27 P3 (i32 V)) 62 8 (i32 A)) 15 19 = rd σ9 15 19 := by rw [wr_nek (by omega), wr_nek (by omega)]; exact (nC.2.1 15 19 rfl (by omega)).trans (gj 15 19 (by omega))
  obtain ⟨τ11, f1', f2', f3', f4', f5', f6'⟩ := m3_run (L := L) (xs := xs) (τ := τ10) (r := r) (P := P3) (c1 := P1 - 1) (c2 := P2 - 1) (c3 := P3 - 1) (s1 := P) (s2 := P1) (s3 := P2) (x := 13) (f := i32 A) (w := i32 V) ((q7 _ _ (by omega)).trans r7) (by omega) ((q7 _ _ (by omega)).trans p5') (by omega) ((q7 _ _ (by omega)).trans ((hold39.2.1 r (by omega) 135 (by omega) (by omega)).trans t5)) ((q7 _ _ (by omega)).trans ((hold79.2.1 (r + 1) (by omega) 135 (by omega) (by omega)).trans v5)) ((q7 _ _ (by omega)).trans z5) (by omega) (by omega) (by omega) (hs10.s161 (by omega) T1.2.1) (hs10.s161 (by omega) T2.2.1) (hs10.s161 (by omega) T3.1) hB1 (by omega) (by omega) (by omega) (by omega)
  have hmS9 : mS L xs τ9 (mBec τ11 r P3) := by
    refine nx r6 (by omega) p3 k5 (pc := 355) (by decide +kernel) (fun dm => ?_)
    rw [e310_355 (dm + 7), bV_ok (r := rn L xs (dm + 7) 324 0 _ _ _) (σ := mBec τ11 r P3), e310_362]
    rw [e324_0 (dm + 6), swk_of (p := 316) (by decide +kernel), e324_316 (dm + 6), bV_ok (r := rn L xs (dm + 6) 329 0 _ _ _) (σ := mBec τ11 r P3), e324_323]
    rw [e329_0 (dm + 5), show pv_c2 .ne (i32 ((29 : Nat) : Int)) 27 = true from rfl, cond_true, e329_11 (dm + 5), show pv_c2 .ne (i32 ((29 : Nat) : Int)) 29 = false from rfl, cond_false, bV_ok (hclose dm), e329_22 (dm + 5), show pv_c2 .ne (i32 ((29 : Nat) : Int)) 27 = true from rfl, cond_true, e329_32 (dm + 5), e329_33 (dm + 5), show pv_c2 .ne (i32 ((29 : Nat) : Int)) 25 = true from rfl, cond_true, e329_47 (dm + 5), show pv_c2 .ne (i32 ((29 : Nat) : Int)) 27 = true from rfl, cond_true, e329_58 (dm + 5)]
    exact f6' (dm + 2) _ _
  have f1' : nodM τ10 τ11 P3 (i32 (mKd 20)) (i32 A) (i32 (A3 - 1 : Nat)) P [P1 - 1, P2 - 1, P3 - 1] := by
    rw [q7 137 (r + 2) (by omega), z7] at f1'
    exact f1'
  have nC' : nodC σ10 σ11 P3 20 (i32 A) (i32 (A3 - 1 : Nat)) (rd σ10 62 5) P [P1 - 1, P2 - 1, P3 - 1] := by rw [h95]; exact nC
  have hoh' : ∀ s : tvS, (∀ i, rd s 31 i = rd σ9 31 i) → ohl s sc = rd σ 62 6 := fun s hs => by
    have := hoh
    rw [c4.s6 k4, e68] at this
    rw [this]
    cases sc with
    | nil => rfl
    | cons u t => exact hs u
  obtain ⟨g1, g2, g3⟩ := form_ok (σ' := wr (wr σ11 27 P3 (i32 V)) 62 8 (i32 A)) (κ := 20) (A0 := A) (A2 := A3) (P0 := P) (kids := [P1 - 1, P2 - 1, P3 - 1]) (r := r) hs10 (Or.inr (Or.inr rfl)) ⟨T1.2.1, hB1, by omega, by rw [show P1 - 1 + 1 = P1 by omega]; exact T2.2.1, by rw [show P1 - 1 + 1 = P1 by omega]; exact hB2, by omega, by rw [show P2 - 1 + 1 = P2 by omega]; exact T3.1, by rw [show P2 - 1 + 1 = P2 by omega]; exact hB3, by omega, by show P3 - 1 + 1 = P3; omega⟩
    (fun c hc => by
      rcases List.mem_cons.mp hc with e | e
      · rw [e]; exact T1.2.2.1
      · rcases List.mem_cons.mp e with e | e
        · rw [e]; exact T2.2.2.1
        · rw [List.mem_singleton.mp e]; exact T3.2.1) rfl
    (fun w c hw2 => by
      match w, hw2 with
      | 0, hw2 =>
        have hw2 : P1 - 1 = c := Option.some.inj hw2
        rw [← hw2, T1.2.2.2.2.2]
        exact hs10.ch
      | 1, hw2 =>
        have hw2 : P2 - 1 = c := Option.some.inj hw2
        rw [← hw2, T2.2.2.2.2.2]
        exact hs10.ch
      | 2, hw2 =>
        have hw2 : P3 - 1 = c := Option.some.inj hw2
        have hsl : scl 20 2 (wr (wr σ11 27 P3 (i32 V)) 62 8 (i32 A)) P3 = [V + 1, V] := by
          unfold scl
          rw [if_neg (by omega), if_neg (by omega), if_pos ⟨rfl, rfl⟩, h27, i32_ixn (by omega)]
        rw [← hw2, T3.2.2, hsl]
        exact hch.congr _ _ (fun u _ => ⟨gj 33 u (by omega), gj 32 u (by omega)⟩)
      | k + 3, hw2 => exact absurd (getq_lt hw2) (by show ¬ (k + 3 < 3); omega))
    ⟨fun q => absurd q (by omega), fun _ => ⟨by rw [h27, i32_ixn (by omega), h15]; exact k13, by rw [h27, i32_ixn (by omega), hoh' _ h31, h31]; exact k10.2.2.2.1, by rw [h27, i32_ixn (by omega), hoh' _ h31, h31]; exact k11⟩, fun q => absurd q (by omega)⟩ (by omega) (by omega) nC' ⟨fun j i h1 h2 => by rw [rd_wr, if_neg (fun q => by rw [q.1, q.2] at h2; cases h2), rd_wr, if_neg (fun q => h1 ⟨q.2, Or.inr q.1⟩)], rfl⟩ (by rw [rd_wr, if_pos ⟨rfl, rfl⟩]) ((hsc 9 (by omega)).trans ((g62 9 (by omega)).trans z4)) ((hsc 3 (by omega)).trans ((g62 3 (by omega)).trans r1)) ((hsc 4 (by omega)).trans ((g62 4 (by omega)).trans r3)) ((hsc 11 (by omega)).trans ((g62 11 (by omega)).trans r5)) (fun i hi => by rw [wr_nek (by omega), wr_nek (by omega)]; exact nC.2.1 63 i rfl (by omega)) f1'
    (fun w hw => by
      have : w = 0 ∨ w = 1 ∨ w = 2 := by omega
      rcases this with e | e | e <;> subst e
      · exact f2'
      · exact f3'
      · exact f4') (fun q => f5'.trans h27.symm) (nnR_27 (by omega) h27 (by omega)) (((((t1.2.mid hold39).lo (by omega)).app ((v1.2.mid hold79).app z1.2 (by omega)) (by omega))).to (fun q _ => gj 17 q (by omega))) (fun v hv => hv.two (V := V) (by rw [wr_nek (by omega), wr_nek (by omega)]; exact nC.2.2.1.1) (by omega) h27)
  refine Or.inl ⟨_, _, _, rfl, hmS9, A3, P3 + 1, rfl, g1, g2, by omega, k8, ?_⟩
  refine OLDe.bind (E := [V, V + 1]) (OLDe.trans (E := []) hold (OLDe.trans (E := []) (hold8.mono (by omega) (Nat.le_refl _) (Nat.le_refl _) (Nat.le_refl _)) (OLDe.trans (E' := []) (OLDe.mono k9 (Nat.le_refl _) (by omega) (Nat.le_refl _) (by omega)) hold910 (Nat.le_refl _) (Nat.le_refl _) (Nat.le_refl _) (Nat.le_refl _)) (Nat.le_refl _) (Nat.le_refl _) (Nat.le_refl _) (Nat.le_refl _)) (Nat.le_refl _) (Nat.le_refl _) (Nat.le_refl _) (Nat.le_refl _)) g3 (Nat.le_refl _) (Nat.le_refl _) (Nat.le_refl _) (Nat.le_refl _) (fun v hv => hv) (fun v hv => ⟨P3, ?_, ?_, Or.inr (Or.inr ⟨?_, ?_⟩)⟩)
  · rw [wr_nek (by omega), wr_nek (by omega), nC.2.2.2.2.2.1, i32_ixn (by omega)]; omega
  · rcases List.mem_cons.mp hv with e | e
    · omega
    · rw [List.mem_singleton.mp e]; omega
  · rw [wr_nek (by omega), wr_nek (by omega)]; exact nC.2.2.1.1
  · rcases List.mem_cons.mp hv with e | e
    · rw [e]; exact Or.inl h27
    · rw [List.mem_singleton.mp e]; exact Or.inr ⟨V, rfl, h27⟩
end FNS
