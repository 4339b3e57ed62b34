/-! COLLECTIONS, COMPONENT: what comes of it -/
section COLLALL
variable {L : Nat} {xs : Nat → Int32} {σ σ' σ0 : tvS} {D : pgD} {rg : rgD} {cd : cdD} {X : dyD} {n nr wd pgs k t o p r N : Nat} {pl np : Nat → Nat} {fl : List Nat} {s : cSt} {pg : Nat → List Nat} {A : alD}
theorem sumF_congr {f g : Nat → Nat} : ∀ (j r : Nat), (∀ q, r ≤ q → q < r + j → f q = g q) → sumF f r j = sumF g r j := by
  intro j
  induction j with
  | zero => intro r _; rfl
  | succ j ih =>
    intro r h
    show sumF f r j + f (r + j) = sumF g r j + g (r + j)
    rw [ih r (fun q h1 h2 => h q h1 (by omega)), h (r + j) (by omega) (by omega)]
def COF : List Nat := [101, 102, 103, 104, 105, 106, 107, 110, 111, 112, 113, 114, 115, 116]
theorem collect_c (hH : GCH D rg cd X n nr wd) (hC : CSz D rg cd σ0) (hP : CPo s pg fl [] nr wd pgs σ0) (hS : CSt n X.sv pl σ0) (hB : CHp D X n pl s pg wd σ0) (hok : oSt s nr wd pgs X.no) (hV : ∀ k, k < n → VOK X.no (X.sv k)) (hN1 : ∀ k, k < N → k < (bfQ X.hp (stQ X.sv n) k).length) (hN2 : (bfQ X.hp (stQ X.sv n) N).length = N) (hA : A = alQ X.hp wd (bfQ X.hp (stQ X.sv n) N) N) (d : Nat) :
    (∃ (s' : cSt) (σ' : tvS) (np : Nat → Nat) (pg' : Nat → List Nat) (fl' : List Nat), coC A N pgs s = .inl s' ∧ rn L xs (d + 6) 231 0 [.ref 103, jv, jv] [] σ0 = some (.inl (some (.int 1)), σ') ∧ CPo s' pg' fl' [] nr wd pgs σ' ∧ CSt n X.sv np σ' ∧ CHp D X n np s' pg' wd σ' ∧ rd σ' 103 26 = i32 (N : Int) ∧ frW COF σ0 σ' ∧ ∀ q, q ≠ 8 → q ≠ 9 → q ≠ 10 → q ≠ 22 → q ≠ 23 → q ≠ 26 → rd σ' 103 q = rd σ0 103 q) ∨
    (∃ σ', coC A N pgs s = .inr (5, (s.R, s.cl, s.cp, s.U, pgs)) ∧ rn L xs (d + 6) 231 0 [.ref 103, jv, jv] [] σ0 = some (.inl (some (.int 0)), σ') ∧ GFa pgs σ0 σ') := by
  have hno := hH.2.1
  obtain ⟨⟨a1, a2, a3, a4, a5, a6, a7, a8⟩, b, c, ⟨d1, d2, d3, d4⟩, e, f1, f2, f3, f4⟩ := id hP
  obtain ⟨o1, o2, o3, o4⟩ := hok
  obtain ⟨s1, s2, s3⟩ := hS
  -- regions are cleared
  obtain ⟨σ1, v1, v2, b1, b2, b3⟩ := cclear_loop (L := L) (xs := xs) hP (d + 4) nr 0 σ0 jv (by omega) frW.refl (fun q h => by omega) (fun _ _ => rfl)
  obtain ⟨σ2, e2⟩ : ∃ σ2, σ2 = wr σ1 103 26 0 := ⟨_, rfl⟩
  have w12 : frW [103] σ1 σ2 := by rw [e2]; exact frW_wr rfl
  have w02 : frW [103, 110, 111, 112, 113, 114, 115] σ0 σ2 := (b2.sub rfl).trans (w12.sub rfl)
  have q2 : ∀ q, q ≠ 26 → rd σ2 103 q = rd σ0 103 q := fun q hq => by rw [e2, wr_nei hq, b2.1 103 rfl]
  have hexm : ∀ p, p ∈ exR pg 0 nr → ∃ q, q < nr ∧ p ∈ pg q := fun p hp => by
    obtain ⟨q, _, q2, q3⟩ := (exR_mem _ _).mp hp
    exact ⟨q, by omega, q3⟩
  have hexi : ∀ q p, q < nr → p ∈ pg q → p ∈ exR pg 0 nr := fun q p hq hp => (exR_mem _ _).mpr ⟨q, by omega, by omega, hp⟩
  have hexl : (exR pg 0 nr).length = s.U := by
    rw [exR_len, ← o3]
    exact sumF_congr nr 0 (fun q _ h2 => (c q (by omega)).2.2.2.2)
  have hP2 : CPo (gcS (fun _ => (0, 0, 0), 0) s.cl s.cp s.U s.pk) (fun _ => []) fl (exR pg 0 nr) nr wd pgs σ2 := by
    refine ⟨⟨by rw [q2 4 (by decide)]; exact a1, by rw [q2 5 (by decide)]; exact a2, by rw [q2 8 (by decide)]; exact a3, by rw [q2 9 (by decide)]; exact a4, ?_, by rw [q2 19 (by decide)]; exact a6, by rw [q2 22 (by decide)]; exact a7, by rw [q2 23 (by decide)]; exact a8⟩, lkF.congr _ _ b (fun q _ => w02.1 106 rfl q), fun q hq => ?_, ⟨fun q _ => ⟨List.nodup_nil, fun p hp => (List.not_mem_nil hp).elim⟩, d2, fun p hp => ⟨(d3 p hp).1, fun hm => ?_⟩, fun p hp => ?_⟩, e, f1, f2, f3, f4⟩
    · rw [q2 10 (by decide), a5]
      show _ = i32 ((max s.pk (s.U + 0) : Nat) : Int)
      rw [Nat.add_zero, Nat.max_eq_left o1]
    · obtain ⟨y1, y2, y3, y4, y5, y6⟩ := b3 q hq
      refine ⟨⟨by rw [w12.1 110 rfl]; exact y2, by rw [w12.1 111 rfl]; exact y3, rfl, fun p hp => (List.not_mem_nil hp).elim⟩, by rw [w12.1 112 rfl]; exact y4, by rw [w12.1 113 rfl]; exact y5, by rw [w12.1 114 rfl]; exact y6, rfl⟩
    · obtain ⟨q, q1, q2⟩ := hexm p hm
      exact ((d1 q q1).2 p q2).2.1 hp
    · obtain ⟨q, q1, q2⟩ := hexm p hp
      exact ((d1 q q1).2 p q2).1
  have hG2 : GCI D rg cd X n pl pl (stQ X.sv 0) 0 0 (gcS (alQ X.hp wd (stQ X.sv 0) (stQ X.sv 0).length) s.cl s.cp s.U s.pk) (fun _ => []) fl (exR pg 0 nr) nr wd pgs σ2 := by
    refine ⟨hP2, by rw [e2, wr_self]; rfl, ⟨⟨List.nodup_nil, fun o ho => (List.not_mem_nil ho).elim⟩, fun o ho => (List.not_mem_nil ho).elim⟩, fun o ho => ?_, fun o ho => (List.not_mem_nil ho).elim, fun j o ho => ?_, hB.2, fun o o' ho => (List.not_mem_nil ho).elim⟩
    · obtain ⟨p1, p2⟩ := hB.1 o ho
      obtain ⟨_, hgi, _⟩ := hH.2.2 o ho
      obtain ⟨q, q1, q2, q3⟩ := p1.page (o4 _ hgi).2
      refine ⟨⟨q, hexi _ q hgi q1, q2, q3, ?_⟩, fun _ => p2.cong (fun j _ => ⟨w02.1 104 rfl _, w02.1 105 rfl _⟩) (fun _ _ _ => rfl)⟩
      rw [w02.1 107 rfl]
      exact (c _ hgi).1.2.2.2 q q1
    · have ho : ([] : List Nat)[j]? = some o := ho
      rw [List.getElem?_nil] at ho
      cases ho
  have hC2 : CSz D rg cd σ2 := fun j hj => by rw [w02.1 39 rfl, w02.1 84 rfl]; exact hC j hj
  have hS2 : CSm n X.sv pl pl 0 σ2 := ⟨by rw [w02.1 100 rfl]; exact s1, fun i hi => by
    rw [w02.1 101 rfl, w02.1 102 rfl, if_neg (by omega)]; exact s3 i hi⟩
  have hd0 : rn L xs (d + 6) 231 0 [.ref 103, jv, jv] [] σ0 = rn L xs (d + 6) 231 40 [.ref 103, .int (i32 ((0 : Nat) : Int)), v2] [] σ2 := by
    rw [e231_0, show (0 : Int32) = i32 ((0 : Nat) : Int) from rfl, b1, e231_33, show (0 : Int32) = i32 ((0 : Nat) : Int) from rfl, show i32 ((0 : Nat) : Int) = (0 : Int32) from rfl, ← e2]
  have hfail : ∀ σ', GFa pgs σ2 σ' → GFa pgs σ0 σ' := fun σ' hh => ⟨(w02.sub rfl).trans hh.1, fun q q1 q2' q3 q4 => by rw [hh.2.1 q q1 q2' q3 q4]; exact q2 q q4, hh.2.2⟩
  have hQ0 := stQ_len (sv := X.sv) n
  have hs1 := met_reach hH.1 (by omega) hV
  have hcoF : pgs < s.U + A.2 → coC A N pgs s = .inr (5, (s.R, s.cl, s.cp, s.U, pgs)) := fun hh => by
    show (if s.U + A.2 ≤ pgs then _ else _) = _
    rw [if_neg (by omega)]
  rw [hd0]
  rcases cstack_loop (L := L) (xs := xs) hH hC2 hexl s2 hV o2 (d + 1) n 0 σ2 pl (fun _ => []) fl v2 (by omega) hG2 hS2 ⟨frW.refl, fun _ _ _ _ _ => rfl, fun _ _ => rfl⟩ with ⟨σ3, np3, pg3, fl3, u1, u2, g1, g2, g3, g4⟩ | ⟨g1, σ', g2, g3⟩
  · have hC3 : CSz D rg cd σ3 := fun j hj => by rw [g4.1.1 39 rfl, g4.1.1 84 rfl]; exact hC2 j hj
    have hd1 : rn L xs (d + 6) 231 40 [.ref 103, .int (i32 ((0 : Nat) : Int)), v2] [] σ2 = rn L xs (d + 6) 231 104 [.ref 103, .int (i32 ((0 : Nat) : Int)), u2] [] σ3 := by
      rw [g1, e231_102]; rfl
    rw [hd1]
    rcases queue_loop (L := L) (xs := xs) hH hC3 hexl s2 hQ0 hs1 o2 hN1 hN2 d N 0 σ3 np3 pg3 fl3 u2 (by omega) g2 ⟨frW.refl, fun _ _ _ _ _ => rfl, fun _ _ => rfl⟩ with ⟨σ4, np4, pg4, fl4, x1, x2, h1, h2, h3, h4, h5⟩ | ⟨h1, σ', h2, h3⟩
    · rw [← hA] at h1 h4
      have hFs := g4.tr h5.toS
      obtain ⟨σ5, fl5, y1, y2, i1, i2, i3, i4⟩ := back_c (L := L) (xs := xs) (σ0 := σ2) (pg0 := pg) (fun r hr => ⟨(d1 r hr).1, fun p hp r' hr' hp' => ((d1 r hr).2 p hp).2.2.2 r' hr' hp', lkF.congr _ _ (c r hr).1.2.2.1 (fun q _ => w02.1 106 rfl q)⟩) (fun r hr => by rw [w12.1 115 rfl]; exact (b3 r hr).1) (d + 4) nr 0 σ4 _ fl4 x2 (by omega) h4.1 (fun q hq => hFs.2.2 q hq) (fun q => hFs.1.1 115 rfl q) (by rw [hexl]; show s.U ≤ s.U + A.2; omega)
      have h26 : rd σ5 103 26 = i32 (N : Int) := by
        have := h4.2.1
        rw [hN2] at this
        rw [i4 26 (by decide) (by decide)]; exact this
      obtain ⟨⟨k1, k2, k3, k4, k5, k6, k7, k8⟩, kb, kc, kd⟩ := i2
      have k7 : rd σ5 103 22 = i32 (s.cl : Int) := k7
      have k8 : rd σ5 103 23 = i32 (s.cp : Int) := k8
      obtain ⟨σ6, e6⟩ : ∃ σ6, σ6 = wr (wr σ5 103 22 (i32 ((s.cl + 1 : Nat) : Int))) 103 23 (i32 ((s.cp + N : Nat) : Int)) := ⟨_, rfl⟩
      have w56 : frW [103] σ5 σ6 := by rw [e6]; exact (frW_wr rfl).trans (frW_wr rfl)
      have q6 : ∀ q, q ≠ 22 → q ≠ 23 → rd σ6 103 q = rd σ5 103 q := fun q h1 h2 => by rw [e6, wr_nei h2, wr_nei h1]
      have w46 : frW [103, 106] σ4 σ6 := i3.trans (w56.sub rfl)
      refine .inl ⟨(A.1, s.cl + 1, s.cp + N, A.2, max s.pk (s.U + A.2)), σ6, np4, pg4, fl5, ?_, ?_, ?_, ?_, ?_, ?_, ?_, fun q z1 z2 z3 z4 z5 z6 => ?_⟩
      · show (if s.U + A.2 ≤ pgs then _ else _) = _
        rw [if_pos h1]
      · rw [h2, e231_133, show (0 : Int32) = i32 ((0 : Nat) : Int) from rfl, i1, e231_159, k7, k8, h26, i32_up, show i32 (s.cp : Int) + i32 (N : Int) = i32 ((s.cp + N : Nat) : Int) by rw [i32_add]; congr 1, ← e6]
      · refine ⟨⟨by rw [q6 4 (by decide) (by decide)]; exact k1, by rw [q6 5 (by decide) (by decide)]; exact k2, by rw [q6 8 (by decide) (by decide)]; exact k3, ?_, by rw [q6 10 (by decide) (by decide)]; exact k5, by rw [q6 19 (by decide) (by decide)]; exact k6, ?_, ?_⟩, lkF.congr _ _ kb (fun q _ => w56.1 106 rfl q), fun q hq => ?_, kd.1, ?_, kd.2.2⟩
        · rw [q6 9 (by decide) (by decide), k4, hexl]
          show i32 ((s.U + A.2 - s.U : Nat) : Int) = _
          rw [Nat.add_sub_cancel_left]; rfl
        · rw [e6, wr_nei (by decide), wr_self]; rfl
        · rw [e6, wr_self]; rfl
        · obtain ⟨⟨m1, m2, m3, m4⟩, m5, m6, m7, m8⟩ := kc q hq
          exact ⟨⟨by rw [w56.1 110 rfl]; exact m1, by rw [w56.1 111 rfl]; exact m2, lkF.congr _ _ m3 (fun y _ => w56.1 106 rfl y), fun y hy => by rw [w56.1 107 rfl]; exact m4 y hy⟩, by rw [w56.1 112 rfl]; exact m5, by rw [w56.1 113 rfl]; exact m6, by rw [w56.1 114 rfl]; exact m7, m8⟩
        · have := kd.2.1
          rw [hexl] at this
          have this : fl5.length + (s.U + A.2 - s.U) = pgs := this
          show fl5.length + A.2 = pgs
          omega
      · refine ⟨by rw [w46.1 100 rfl, h5.1.1 100 rfl]; exact g3.1, s2, fun i hi => ?_⟩
        obtain ⟨z1, z2, z3⟩ := g3.2 i hi
        rw [if_pos hi] at z1
        rw [w46.1 101 rfl, h5.1.1 101 rfl, w46.1 102 rfl, h5.1.1 102 rfl, z1]
        refine ⟨?_, z2, z3⟩
        unfold cwd
        by_cases c2 : (X.sv i).1 = 2
        · rw [if_pos c2, if_pos c2, h3 _ (stQ_mem n hi c2)]
        · rw [if_neg c2, if_neg c2]
      · have hin : ∀ o, RCO X n o → o ∈ bfQ X.hp (stQ X.sv n) N := fun o ho => reach_met (by omega) hN1 hN2 ho
        refine ⟨fun o ho => ?_, fun o o' ho ho' hne => h4.2.2.2.2.2.2.2 o o' (hin o ho) (hin o' ho') hne⟩
        obtain ⟨j, hj⟩ := List.mem_iff_getElem?.mp (hin o ho)
        obtain ⟨z1, z2, z3, z4⟩ := h4.2.2.2.2.2.1 j o hj
        have hjl := (List.getElem?_eq_some_iff.mp hj).1
        rw [hN2] at hjl
        exact ⟨z2, z3.cong (fun i _ => ⟨w46.1 104 rfl _, w46.1 105 rfl _⟩) (fun t v _ => by
          show cwd np4 v = (if j < N ∨ (j = N ∧ t < 0) then cwd np4 v else cwd pl v)
          rw [if_pos (.inl hjl)])⟩
      · rw [q6 26 (by decide) (by decide)]; exact h26
      · exact (((w02.sub rfl).trans (hFs.1.sub rfl)).trans (i3.sub rfl)).trans (w56.sub rfl)
      · rw [q6 q z4 z5, i4 q z1 z2, hFs.2.1 q z1 z2 z3 z6, q2 q z6]
    · rw [← hA] at h1
      refine .inr ⟨σ', hcoF h1, h2, hfail σ' ?_⟩
      exact ⟨(g4.1.sub rfl).trans h3.1, fun q q1 q2' q3 q4 => by rw [h3.2.1 q q1 q2' q3 q4]; exact g4.2.1 q q1 q2' q3 q4, h3.2.2⟩
  · refine .inr ⟨σ', hcoF ?_, g2, hfail σ' g3⟩
    have hp2 : preQ (stQ X.sv n) (bfQ X.hp (stQ X.sv n) N) := by
      have := bfQ_mono (hp := X.hp) (Q := stQ X.sv n) N 0
      rw [Nat.zero_add] at this
      exact this
    have := alQ_le (hp := X.hp) (wd := wd) hp2
    rw [hN2, ← hA] at this
    omega
end COLLALL
