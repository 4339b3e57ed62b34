/-! READING: what must stand here; brackets -/
section MUST
variable {L : Nat} {xs : Nat → Int32} {K1 K2 m : Nat} {μ : Nat → Nat} {g fc : Nat} {sc : List Nat} {fs fs' : List (Nat × Nat × List Nat)} {F D H n A P r r0 : Nat} {σ τ σ' τ' σ1 τ1 : tvS}
theorem FLT.mk' {R : tvR} {k : Int32} {A' : Nat} {τp : tvS} (h : ST K1 K2 m μ g fc sc fs D H n A P r σ τ) (hA : A' ≤ m) (hk : pv_c1 .le k = false) (hR : R = some (.inr (1016, (rm σ).1), cFlt σ k (rd σ 13 A'))) (hm : mS L xs τp (mFlt τ1 k (rd τ 127 A'))) : FLT L xs K1 K2 τp R := by
  obtain ⟨o1, o2, o3, o4, o5, o6, o7, o8, o9, o10⟩ := h.all
  refine ⟨σ, _, k, _, hR, o10, hm, ?_, ?_, hk⟩
  · unfold mFlt; rw [rd_wr, if_neg (by omega), rd_wr, if_pos ⟨rfl, rfl⟩]
  · unfold mFlt; rw [rd_wr, if_pos ⟨rfl, rfl⟩]; exact ((o1.2.1 A' hA).2.1).symm
theorem ST.take (h : ST K1 K2 m μ g fc sc fs D H n A P r σ τ) {k : Nat} {x : Int32} (hx : x = i32 k) (hk : k ≤ 36) (d : Nat) : rn L xs (d + 2) 303 0 [.ref 123, .int x] [] τ = if μ A = k then some (.inl (some (.int 1)), wr τ 123 17 (i32 (A + 1 : Nat))) else some (.inl (some (.int 0)), mFlt τ 2 (rd τ 127 A)) := by
  obtain ⟨o1, o2, o3, o4, o5, o6, ⟨s1, s2, s3, s4, s5, s6, s7, s8, s9, s10, s11, s12⟩, o8, o9, o10⟩ := h.all
  rw [hx, mtake_ok o1 s8 s2 hk o3 d, o2]
theorem ST.ms (h : ST K1 K2 m μ g fc sc fs D H n A P r σ τ) {k : Nat} {x : Int32} (hx : x = i32 (sgC k)) (h1 : 20 ≤ k) (h2 : k ≤ 35) (d : Nat) : rn L xs (d + 4) 112 0 [.ref 62, .int x] [] σ = if μ A = k then some (.inl none, wr σ 62 3 (i32 (A + 1 : Nat))) else some (.inr (1016, (rm σ).1), cFlt σ 2 (rd σ 13 A)) := by
  obtain ⟨o1, o2, o3, o4, o5, o6, ⟨s1, s2, s3, s4, s5, s6, s7, s8, s9, s10, s11, s12⟩, o8, o9, o10⟩ := h.all
  rw [hx, rmust_ok o1 s8 s1 h1 h2 o4 d, o2]
theorem ST.mw (h : ST K1 K2 m μ g fc sc fs D H n A P r σ τ) {w : Nat} {x : Int32} (hx : x = i32 w) (h1 : w < 13) (d : Nat) : rn L xs (d + 3) 122 0 [.ref 62, .int x] [] σ = if μ A = 3 + w then some (.inl none, wr σ 62 3 (i32 (A + 1 : Nat))) else some (.inr (1016, (rm σ).1), cFlt σ 2 (rd σ 13 A)) := by
  obtain ⟨o1, o2, o3, o4, o5, o6, ⟨s1, s2, s3, s4, s5, s6, s7, s8, s9, s10, s11, s12⟩, o8, o9, o10⟩ := h.all
  rw [hx, rmustw_ok o1 s8 s1 h1 o4 d, o2]
theorem ST.tk (h : ST K1 K2 m μ g fc sc fs D H n A P r σ τ) {k : Nat} {x : Int32} (hx : x = i32 (sgC k)) (h1 : 20 ≤ k) (h2 : k ≤ 35) (d : Nat) : rn L xs (d + 3) 113 0 [.ref 62, .int x, jv] [] σ = some (.inl (some (.int (bN (decide (μ A = k))))), if μ A = k then wr σ 62 3 (i32 (A + 1 : Nat)) else σ) := by
  obtain ⟨o1, o2, o3, o4, o5, o6, ⟨s1, s2, s3, s4, s5, s6, s7, s8, s9, s10, s11, s12⟩, o8, o9, o10⟩ := h.all
  rw [hx, rtake_ok o1 s8 s1 h1 h2 d, o2]
/-- a lexeme that must stand here, a word of the model for it -/
theorem lx_ok {k : Nat} {b : Int32} {R : tvR} (h : ST K1 K2 m μ g fc sc fs D H (n + 1) A P r σ τ) (hI : IT τ n 14 (i32 k) b) (hk : k ≤ 35) (hR : R = if μ A = k then some (.inl none, wr σ 62 3 (i32 (A + 1 : Nat))) else some (.inr (1016, (rm σ).1), cFlt σ 2 (rd σ 13 A))) :
    OUTV L xs K1 K2 τ R (fun σ' τ' => μ A = k ∧ A < m ∧ σ' = wr σ 62 3 (i32 (A + 1 : Nat)) ∧ ST K1 K2 m μ g fc sc fs D H n (A + 1) P r σ' τ' ∧ OLD n r H P σ τ σ' τ') := by
  obtain ⟨o1, o2, o3, o4, o5, o6, ⟨s1, s2, s3, s4, s5, s6, s7, s8, s9, s10, s11, s12⟩, o8, o9, o10⟩ := h.all
  have hpop := h.pop
  have hrun : ∀ dm, rn L xs (dm + 8) 310 304 [.ref 123, .int (i32 (14 : Nat)), .int (i32 k), .int b, jv] [] (wr τ 123 18 (i32 n)) = some (.inl none, if μ A = k then wr (wr τ 123 18 (i32 n)) 123 17 (i32 (A + 1 : Nat)) else mFlt (wr τ 123 18 (i32 n)) 2 (rd (wr τ 123 18 (i32 n)) 127 A)) := by
    intro dm
    by_cases q : μ A = k
    · have := hpop.take (L := L) (xs := xs) (k := k) rfl (by omega) (dm + 5)
      rw [if_pos q] at this
      rw [if_pos q, e310_304 (dm + 7), bI_ok this, e310_362]
    · have := hpop.take (L := L) (xs := xs) (k := k) rfl (by omega) (dm + 5)
      rw [if_neg q] at this
      rw [if_neg q, e310_304 (dm + 7), bI_ok this, e310_362]
  have hmS := nx s6 (by omega) o3 hI (pc := 304) (by decide +kernel) hrun
  by_cases q : μ A = k
  · rw [if_pos q] at hmS hR
    have hlt := h.lt (by omega)
    exact Or.inl ⟨_, _, hR, hmS, q, hlt, rfl, hpop.at1 hlt, ((OLD.refl.wrC (Or.inl rfl)).wrM (by omega)).wrM (by omega)⟩
  · rw [if_neg q] at hmS hR
    exact Or.inr (FLT.mk' hpop s8 (by decide) hR hmS)
theorem br_ok {B : Nat} (hE : NT L xs K1 K2 m μ g fc 1 119 0 0 [jv] B) {d : Nat} (h : ST K1 K2 m μ g fc sc fs D H (n + 1) A P r σ τ) (hX : rd τ 132 n = i32 13) (hμ : μ A = 24) (hB : m - A ≤ B) (hn : n ≤ 8 * A + 6) (hd : 12 * (40 - D) + 20 + 4 ≤ d) : OUTI L xs K1 K2 τ (rn L xs d 134 0 [.ref 62, jv, jv, jv, jv] [] σ) (NTQ K1 K2 m μ g fc sc fs D H n r A P σ τ) := by
  obtain ⟨d, rfl⟩ : ∃ d', d = d' + 5 := ⟨d - 5, by omega⟩
  obtain ⟨o1, o2, o3, o4, ⟨o5, o5'⟩, o6, ⟨s1, s2, s3, s4, s5, s6, s7, s8, s9, s10, s11, s12⟩, o8, o9, o10⟩ := h.all
  have hlt := h.lt (by omega)
  have hws := wch_succ μ A
  have hu : uch (μ A) = 0 := by rw [hμ]; rfl
  have hpop := h.pop
  have p17 : rd (wr τ 123 18 (i32 n)) 123 17 = i32 A := by rw [rd_wr, if_neg (by omega)]; exact s2
  have hmS : mS L xs τ (mPush (mPush (wr (wr τ 123 18 (i32 n)) 123 17 (i32 (A + 1 : Nat))) n 30 (i32 A) 0) (n + 1) 1 0 0) := by
    refine nx s6 (by omega) o3 ⟨hX, rfl, rfl⟩ (pc := 297) (by decide +kernel) (fun dm => ?_)
    rw [e310_297 (dm + 7), bV_ok (r := rn L xs (dm + 7) 312 0 _ _ _) (σ := mPush (mPush (wr (wr τ 123 18 (i32 n)) 123 17 (i32 (A + 1 : Nat))) n 30 (i32 A) 0) (n + 1) 1 0 0), e310_362]
    rw [e312_0 (dm + 6), bI_ok (hpop.mk (dm + 5)), hμ, p17, swk_of (p := 170) (by decide +kernel), e312_170 (dm + 6), p17, i32_n1, bV_ok (mpush_ok (n := n) (by rw [rd_wr, if_neg (by omega), rd_wr, if_pos ⟨rfl, rfl⟩]) (by omega) (dm + 5) _ _ _), bV_ok (mpush_ok (n := n + 1) mPush_come (by omega) (dm + 5) _ _ _), e312_246]
  refine OUTI.pre hmS ?_
  have h2 := ((hpop.at1 hlt).push (by omega) 30 (i32 A) 0).push (by omega) 1 0 0
  have hold : OLD n r H P σ τ (wr σ 62 3 (i32 (A + 1 : Nat))) (mPush (mPush (wr (wr τ 123 18 (i32 n)) 123 17 (i32 (A + 1 : Nat))) n 30 (i32 A) 0) (n + 1) 1 0 0) := ((((OLD.refl.wrC (Or.inl rfl)).wrM (by omega)).wrM (by omega)).push (by omega)).push (by omega)
  have i1 : IT (mPush (mPush (wr (wr τ 123 18 (i32 n)) 123 17 (i32 (A + 1 : Nat))) n 30 (i32 A) 0) (n + 1) 1 0 0) (n + 1) 1 0 0 := IT.at rfl
  have i2 : IT (mPush (mPush (wr (wr τ 123 18 (i32 n)) 123 17 (i32 (A + 1 : Nat))) n 30 (i32 A) 0) (n + 1) 1 0 0) n 30 (i32 A) 0 := (IT.at rfl).push (by omega)
  generalize mPush (mPush (wr (wr τ 123 18 (i32 n)) 123 17 (i32 (A + 1 : Nat))) n 30 (i32 A) 0) (n + 1) 1 0 0 = τ2 at h2 hold i1 i2
  rw [e134_0 (d + 4), s1, i32_n1]
  generalize wr σ 62 3 (i32 (A + 1 : Nat)) = σ2 at h2 hold
  refine OUTI.bI (hE sc fs D H (n + 1) (A + 1) P r σ2 τ2 (d + 4) h2 i1.1 (by omega) (by omega) (by omega)) (fun a σ3 τ3 hQ => ?_)
  obtain ⟨A1, P1, y1, y2, y3, y4, y5, y6⟩ := hQ
  subst y1
  obtain ⟨p1, p2, p3, p4, ⟨p5, p5'⟩, p6, ⟨r1, r2, r3, r4, r5, r6, r7, r8, r9, r10, r11, r12⟩, p8, p9, p10⟩ := y2.all
  obtain ⟨t1, t2, t3, t4, t5, t6, t7, t8⟩ := y3
  have hpop3 := y2.pop
  have hold3 : OLD n r H P σ τ σ3 τ3 := hold.trans (y6.mono (by omega) (by omega) (by omega) (by omega)) (Nat.le_refl _) (Nat.le_refl _) (Nat.le_refl _) (Nat.le_refl _)
  have i3 : IT τ3 n 30 (i32 A) 0 := IT.old y6 (by omega) i2
  have hws1 := wch_succ μ A1
  have q17 : rd (wr τ3 123 18 (i32 n)) 123 17 = i32 A1 := by rw [rd_wr, if_neg (by omega)]; exact r2
  have q22 : rd (wr τ3 123 18 (i32 n)) 123 22 = i32 (r + 1 : Nat) := by rw [rd_wr, if_neg (by omega)]; exact r7
  rw [bI_ok (y2.tk (x := 41) (k := 25) rfl (by omega) (by omega) (d + 1)), c1_eq_bN]
  by_cases q : μ A1 = 25
  · rw [decide_eq_true q, cond_true, if_pos q]
    have hlt1 := y2.lt (by omega)
    have hmS3 : mS L xs τ3 (wr (wr (wr (wr τ3 123 18 (i32 n)) 123 17 (i32 (A1 + 1 : Nat))) 136 r (i32 A)) 137 r (i32 A1)) := by
      refine nx r6 (by omega) p3 i3 (pc := 338) (by decide +kernel) (fun dm => ?_)
      have ht := hpop3.take (L := L) (xs := xs) (x := 25) (k := 25) rfl (by omega) (dm + 4)
      rw [if_pos q] at ht
      rw [e310_338 (dm + 7), bV_ok (r := rn L xs (dm + 7) 321 0 _ _ _) (σ := wr (wr (wr (wr τ3 123 18 (i32 n)) 123 17 (i32 (A1 + 1 : Nat))) 136 r (i32 A)) 137 r (i32 A1)), e310_362]
      rw [e321_0 (dm + 6), bI_ok (hpop3.mk (dm + 5)), mcondn (x := 26) (y := 26) rfl (by omega) (by omega), if_neg (by omega), e321_46 (dm + 6), bI_ok ht, show pv_c1 .eq (1 : Int32) = false from rfl, cond_false, rd_wr, if_neg (by omega), q22, i32_s1 (by omega), show r + 1 - 1 = r by omega, c_in (by omega) (by omega) (by omega), c_in (by omega) (by omega) (by omega), i32_ixn (by omega), rd_wr, if_pos ⟨rfl, rfl⟩, i32_s1 (by omega), show A1 + 1 - 1 = A1 by omega, e321_84]
    refine OUTI.pre hmS3 ?_
    have hST4 := hpop3.at1 hlt1
    obtain ⟨_, _, _, _, _, _, ⟨z1, z2, z3, z4, z5, z6, z7, z8, z9, z10, z11, z12⟩, _⟩ := hST4.all
    have e3 : rd (wr σ3 62 3 (i32 (A1 + 1 : Nat))) 62 3 = i32 (A1 + 1 : Nat) := by rw [rd_wr, if_pos ⟨rfl, rfl⟩]
    rw [e3, i32_s1 (by omega), show A1 + 1 - 1 = A1 by omega]
    refine OUTI.fin ⟨A1 + 1, P1, rfl, hST4.ag ((agC.refl.wr rfl).wr rfl) ((agM.refl.wr rfl).wr rfl) (Nat.le_refl _) z8 z9 z10 z11 (by rw [rd_wr, if_neg (by omega), rd_wr, if_neg (by omega)]; exact z1) (by rw [wr_nek (by omega), wr_nek (by omega)]; exact z2) (by rw [rd_wr, if_neg (by omega), rd_wr, if_neg (by omega)]; exact z3) (by rw [wr_nek (by omega), wr_nek (by omega)]; exact z4) (by rw [rd_wr, if_neg (by omega), rd_wr, if_neg (by omega)]; exact z5) (by rw [wr_nek (by omega), wr_nek (by omega)]; exact z6) (by rw [wr_nek (by omega), wr_nek (by omega)]; exact z7), ⟨⟨by omega, fun q h1 h2 => by rw [wr_nek (by omega), wr_nek (by omega), wr_nek (by omega)]; have := t1.2 q h1 h2; omega⟩, t2, by rw [rd_wr, if_neg (by omega), rd_wr, if_pos ⟨rfl, rfl⟩], by rw [rd_wr, if_pos ⟨rfl, rfl⟩, show A1 + 1 - 1 = A1 by omega], ?_, ?_, ?_, ?_⟩, by omega, by rw [show A1 + 1 - 1 = A1 by omega, q]; rfl, ?_⟩ rfl
    · rw [wr_nek (by omega), wr_nek (by omega), wr_nek (by omega), wr_nek (by omega)]; exact t5
    · rw [wr_nek (by omega), rd_wr, if_pos ⟨rfl, rfl⟩]
    · rw [rd_wr, if_pos ⟨rfl, rfl⟩, show A1 + 1 - 1 = A1 by omega]
    · obtain ⟨g1, g2, g3, g4, g5, g6⟩ := t8
      have e : ∀ j i, j < 62 → rd (wr (wr (wr σ3 62 3 (i32 (A1 + 1 : Nat))) 62 8 (i32 A)) 62 9 (i32 A1)) j i = rd σ3 j i := fun j i hj => by rw [wr_nek (by omega), wr_nek (by omega), wr_nek (by omega)]
      exact ⟨g1, (e _ _ (by omega)).trans g2, (e _ _ (by omega)).trans g3, (e _ _ (by omega)).trans g4, (e _ _ (by omega)).trans g5, ((e _ _ (by omega)).trans g6).trans (by rw [rd_wr, if_neg (by omega), rd_wr, if_neg (by omega), rd_wr, if_neg (by omega)])⟩
    · exact ((((((hold3.wrC (Or.inl rfl)).wrC (Or.inl rfl)).wrC (Or.inl rfl)).wrM (by omega)).wrM (by omega)).wrM (by omega)).wrM (by omega)
  · rw [decide_eq_false q, cond_false, if_neg q, e134_46 (d + 4), show d + 4 = d + 4 from rfl]
    have hms := y2.ms (L := L) (xs := xs) (x := 44) (k := 26) rfl (by omega) (by omega) d
    by_cases q2 : μ A1 = 26
    · rw [if_pos q2] at hms
      rw [bV_ok hms]
      have hlt1 := y2.lt (by omega)
      have hu1 : uch (μ A1) = 1 := by rw [q2]; rfl
      have hmS3 : mS L xs τ3 (mPush (mPush (mPush (wr (wr τ3 123 18 (i32 n)) 123 17 (i32 (A1 + 1 : Nat))) n 31 (i32 A) 0) (n + 1) 14 25 0) (n + 2) 1 0 0) := by
        refine nx r6 (by omega) p3 i3 (pc := 338) (by decide +kernel) (fun dm => ?_)
        rw [e310_338 (dm + 7), bV_ok (r := rn L xs (dm + 7) 321 0 _ _ _) (σ := mPush (mPush (mPush (wr (wr τ3 123 18 (i32 n)) 123 17 (i32 (A1 + 1 : Nat))) n 31 (i32 A) 0) (n + 1) 14 25 0) (n + 2) 1 0 0), e310_362]
        rw [e321_0 (dm + 6), bI_ok (hpop3.mk (dm + 5)), mcondn (x := 26) (y := 26) rfl (by omega) (by omega), if_pos q2, q17, i32_n1, bV_ok (mpush_ok (n := n) (by rw [rd_wr, if_neg (by omega), rd_wr, if_pos ⟨rfl, rfl⟩]) (by omega) (dm + 5) _ _ _), bV_ok (mpush_ok (n := n + 1) mPush_come (by omega) (dm + 5) _ _ _), bV_ok (mpush_ok (n := n + 2) mPush_come (by omega) (dm + 5) _ _ _), e321_84]
      refine OUTI.pre hmS3 ?_
      have h4 := (((hpop3.at1 hlt1).push (by omega) 31 (i32 A) 0).push (by omega) 14 25 0).push (by omega) 1 0 0
      have hold4 : OLD n r H P σ3 τ3 (wr σ3 62 3 (i32 (A1 + 1 : Nat))) (mPush (mPush (mPush (wr (wr τ3 123 18 (i32 n)) 123 17 (i32 (A1 + 1 : Nat))) n 31 (i32 A) 0) (n + 1) 14 25 0) (n + 2) 1 0 0) := (((((OLD.refl.wrC (Or.inl rfl)).wrM (by omega)).wrM (by omega)).push (by omega)).push (by omega)).push (by omega)
      have j1 : IT (mPush (mPush (mPush (wr (wr τ3 123 18 (i32 n)) 123 17 (i32 (A1 + 1 : Nat))) n 31 (i32 A) 0) (n + 1) 14 25 0) (n + 2) 1 0 0) (n + 2) 1 0 0 := IT.at rfl
      have j2 : IT (mPush (mPush (mPush (wr (wr τ3 123 18 (i32 n)) 123 17 (i32 (A1 + 1 : Nat))) n 31 (i32 A) 0) (n + 1) 14 25 0) (n + 2) 1 0 0) (n + 1) 14 25 0 := (IT.at rfl).push (by omega)
      have j3 : IT (mPush (mPush (mPush (wr (wr τ3 123 18 (i32 n)) 123 17 (i32 (A1 + 1 : Nat))) n 31 (i32 A) 0) (n + 1) 14 25 0) (n + 2) 1 0 0) n 31 (i32 A) 0 := ((IT.at rfl).push (by omega)).push (by omega)
      have hr1 : rd (mPush (mPush (mPush (wr (wr τ3 123 18 (i32 n)) 123 17 (i32 (A1 + 1 : Nat))) n 31 (i32 A) 0) (n + 1) 14 25 0) (n + 2) 1 0 0) 135 r = i32 (P1 - 1 : Nat) := (mPush_oth (by omega) (by omega)).trans ((mPush_oth (by omega) (by omega)).trans ((mPush_oth (by omega) (by omega)).trans ((wr_nek (by omega)).trans ((wr_nek (by omega)).trans t5))))
      generalize mPush (mPush (mPush (wr (wr τ3 123 18 (i32 n)) 123 17 (i32 (A1 + 1 : Nat))) n 31 (i32 A) 0) (n + 1) 14 25 0) (n + 2) 1 0 0 = τ4 at h4 hold4 j1 j2 j3 hr1
      have hPT : PT P (P1 - 1) (wr σ3 62 3 (i32 (A1 + 1 : Nat))) := by
        obtain ⟨g1, g2, g3, g4, g5, g6⟩ := t8
        exact ⟨g1, (wr_nek (by omega)).trans g2, (wr_nek (by omega)).trans g3, (wr_nek (by omega)).trans g4, (wr_nek (by omega)).trans g5, ((wr_nek (by omega)).trans g6).trans (by rw [rd_wr, if_neg (by omega)])⟩
      have hR4 : RF A P P1 (wr σ3 62 3 (i32 (A1 + 1 : Nat))) := fun q h1 h2 => by rw [wr_nek (by omega)]; have := t1.2 q h1 h2; omega
      generalize wr σ3 62 3 (i32 (A1 + 1 : Nat)) = σ4 at h4 hold4 hPT hR4
      refine OUTI.bI (hE sc fs D H (n + 2) (A1 + 1) P1 (r + 1) σ4 τ4 (d + 4) h4 j1.1 (by omega) (by omega) (by omega)) (fun a σ5 τ5 hQ => ?_)
      obtain ⟨A2, P2, w1, w2, w3, w4, w5, w6⟩ := hQ
      subst w1
      obtain ⟨v1, v2, v3, v4, v5, v6, v7, v8⟩ := w3
      obtain ⟨_, _, _, _, ⟨x5, x5'⟩, _, ⟨x61, x62, x63, x64, x65, x66, x67, x68, x69, x610, x611, x612⟩, _, x9, _⟩ := w2.all
      refine OUTV.bV (lx_ok (k := 25) w2 (IT.old w6 (by omega) j2) (by omega) (w2.ms (x := 41) (k := 25) rfl (by omega) (by omega) d)) (fun σ6 τ6 hW => ?_)
      obtain ⟨b1, b2, b3, b4, b5⟩ := hW
      have b5' := b5.mono (n' := n + 1) (r' := r + 2) (H' := H) (P' := P2) (Nat.le_refl _) (Nat.le_refl _) (Nat.le_refl _) (Nat.le_refl _)
      have hold6 : OLD (n + 1) (r + 1) H P1 σ4 τ4 σ6 τ6 := (w6.mono (by omega) (by omega) (by omega) (by omega)).trans (b5.mono (by omega) (by omega) (by omega) (by omega)) (Nat.le_refl _) (Nat.le_refl _) (Nat.le_refl _) (Nat.le_refl _)
      obtain ⟨_, _, _, _, ⟨c5, c5'⟩, _, ⟨c61, c62, c63, c64, c65, c66, c67, c68, c69, c610, c611, c612⟩, _, c9, _⟩ := b4.all
      have hT2 := hPT.old hold6 (by omega) (h4.s5 b4)
      have v8' : PT P1 (P2 - 1) σ6 := v8.old b5' (by omega) (w2.s5 b4)
      have hws2 := wch_succ μ A2
      obtain ⟨σ7, nC, hrun⟩ := pad2 (L := L) (xs := xs) (σ := σ6) (κ := 4) (x := 4) (P := P2) (c1 := P1 - 1) (c2 := P2 - 1) (s1 := P) (s2 := P1) (f := i32 A) (l := i32 (A2 + 1 - 1 : Nat)) (s := rd σ6 62 5) (r1 := 0) (r2 := 0) rfl c5 (by omega) (by omega) (by omega) hT2.2.1 v8'.2.1 (by have := hT2.1; omega) (by omega) (by have := v8'.1; omega) rfl rfl (d + 1)
      rw [c61, i32_s1 (by omega)]
      have e := hrun (fun a6 s8 => some (.inl (some (.int a6)), wr (wr s8 62 8 (i32 A)) 62 9 ((rd s8 62 3) - 1)))
      refine e.symm ▸ ?_
      have hsc : ∀ i, rd σ7 62 i = rd σ6 62 i := fun i => nC.2.1 62 i rfl (by omega)
      rw [hsc 3, c61, i32_s1 (by omega)]
      have hsc2 : ∀ i, i ≠ 8 → i ≠ 9 → rd (wr (wr σ7 62 8 (i32 A)) 62 9 (i32 (A2 + 1 - 1 : Nat))) 62 i = rd σ6 62 i := fun i h1 h2 => by rw [rd_wr, if_neg (by omega), rd_wr, if_neg (by omega)]; exact hsc i
      obtain ⟨τ7, g1, g2, g3, g4⟩ := bin_ok (L := L) (xs := xs) (κ := 4) (X := 31) (A0 := A) (A2 := A2 + 1) (P0 := P) (P1 := P1) (p1 := P1 - 1) (p2 := P2 - 1) (H' := H) (n := n) (r := r) (σ1 := σ7) (σ' := wr (wr σ7 62 8 (i32 A)) 62 9 (i32 (A2 + 1 - 1 : Nat))) b4 hT2 v8' (by omega) (by omega) ((hold6.2.1 r (by omega) 135 (by omega) (by omega)).trans hr1) ((b5.2.1 (r + 1) (by omega) 135 (by omega) (by omega)).trans v5) (fun q => absurd rfl q) (IT.old hold6 (by omega) j3) (by omega) (by omega) nC
        ⟨fun j i h1 h2 => by rw [rd_wr, if_neg (fun q => by rw [q.1, q.2] at h2; cases h2), rd_wr, if_neg (fun q => by rw [q.1, q.2] at h2; cases h2)], rfl⟩ (by rw [rd_wr, if_neg (by omega), rd_wr, if_pos ⟨rfl, rfl⟩]) (by rw [rd_wr, if_pos ⟨rfl, rfl⟩]) ((hsc2 3 (by omega) (by omega)).trans c61) ((hsc2 4 (by omega) (by omega)).trans c63) ((hsc2 11 (by omega) (by omega)).trans c65) c610 (fun i hi => by rw [wr_nek (by omega), wr_nek (by omega)]; exact nC.2.1 63 i rfl (by omega)) (hR4.join hold6 (v1.2.to (fun q hq => OLDg.r17 b5' hq (by omega) (by omega))) (by omega)) (fun e => by omega) (Or.inr (Or.inr (Or.inr ⟨rfl, rfl, rfl⟩)))
      refine Or.inl ⟨_, _, τ7, rfl, g1, A2 + 1, P2 + 1, rfl, g2, g3, by omega, by rw [show A2 + 1 - 1 = A2 by omega, b1]; rfl, ?_⟩
      exact hold3.trans (hold4.trans ((hold6.mono (by omega) (by omega) (by omega) (by omega)).trans g4 (Nat.le_refl _) (Nat.le_refl _) (Nat.le_refl _) (Nat.le_refl _)) (Nat.le_refl _) (Nat.le_refl _) (Nat.le_refl _) (Nat.le_refl _)) (Nat.le_refl _) (Nat.le_refl _) (Nat.le_refl _) (Nat.le_refl _)
    · rw [if_neg q2] at hms
      rw [bV_ex hms]
      refine Or.inr (FLT.mk' (τ1 := wr τ3 123 18 (i32 n)) hpop3 r8 (k := 2) (by decide) rfl ?_)
      refine nx r6 (by omega) p3 i3 (pc := 338) (by decide +kernel) (fun dm => ?_)
      have ht := hpop3.take (L := L) (xs := xs) (x := 25) (k := 25) rfl (by omega) (dm + 4)
      rw [if_neg q] at ht
      rw [e310_338 (dm + 7), bV_ok (r := rn L xs (dm + 7) 321 0 _ _ _) (σ := mFlt (wr τ3 123 18 (i32 n)) 2 (rd (wr τ3 123 18 (i32 n)) 127 A1)), e310_362]
      rw [e321_0 (dm + 6), bI_ok (hpop3.mk (dm + 5)), mcondn (x := 26) (y := 26) rfl y2.mu36 (by omega), if_neg q2, e321_46 (dm + 6), bI_ok ht, show pv_c1 .eq (0 : Int32) = true from rfl, cond_true, e321_84]
end MUST
