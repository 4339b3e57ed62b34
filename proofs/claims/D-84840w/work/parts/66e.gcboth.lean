/-! COLLECTIONS, BOTH: one that is asked for -/
section TOF
variable {τ τ' : tvS} {D : pgD} {rg : rgD} {cd : cdD} {vd : Nat → Nat} {N : Nat} {G : tG} {r : Nat → Nat}
theorem RSm.toF {F : List Nat} (h : RSm D rg cd vd N G r τ) (hT : TM N G r τ') (w : frM RAr F τ τ') : RSm D rg cd vd N G r τ' := by
  obtain ⟨_, h2, h3, h4, h5⟩ := h
  refine ⟨hT, fun f hf => ?_, fun p hp => (h3 p hp).to (fun j hj i => ?_), fun v hv => by rw [w.rd (j := 147) rfl]; exact h4 v hv, fun f q hf q1 q2 => ?_⟩
  · obtain ⟨⟨a1, a2, a3⟩, a4, a5, a6, a7⟩ := h2 f hf
    exact ⟨⟨by rw [w.rd (j := 142) rfl]; exact a1, by rw [w.rd (j := 143) rfl]; exact a2, by rw [w.rd (j := 140) rfl]; exact a3⟩, by rw [w.rd (j := 190) rfl]; exact a4, by rw [w.rd (j := 191) rfl]; exact a5, fun i hi => by rw [w.rd (j := 192) rfl]; exact a6 i hi, fun k hk => by rw [w.rd (j := 194) rfl]; exact a7 k hk⟩
  · rcases hj with e | e | e | e | e | e | e | e <;> rw [e] <;> exact w.rd rfl i
  · obtain ⟨b1, b2, b3⟩ := h5 f q hf q1 q2
    refine ⟨fun k => ?_, fun k k' => ?_, fun k => ?_⟩
    · obtain ⟨x, x1, x2, x3⟩ := b1 k
      exact ⟨x, by rw [w.rd (j := 178) rfl]; exact x1, x2, by rw [w.rd (j := 184) rfl]; exact x3⟩
    · obtain ⟨n1, x1, x2, x3⟩ := b2 k k'
      refine ⟨n1, by rw [w.rd (j := 181) rfl]; exact x1, x2, fun i hi => ?_⟩
      obtain ⟨x, y1, y2, y3⟩ := x3 i hi
      exact ⟨x, by rw [w.rd (j := 182) rfl]; exact y1, y2, by rw [w.rd (j := 184) rfl]; exact y3⟩
    · obtain ⟨cf, kf, c1, c2, c3, c4, c5, c6, c7, c8⟩ := b3 k
      exact ⟨cf, kf, c1, c2, by rw [w.rd (j := 196) rfl]; exact c3, by rw [w.rd (j := 197) rfl]; exact c4, fun i hi => by rw [w.rd (j := 198) rfl]; exact c5 i hi, by rw [w.rd (j := 199) rfl]; exact c6, by rw [w.rd (j := 200) rfl]; exact c7, fun i hi => by rw [w.rd (j := 201) rfl]; exact c8 i hi⟩
theorem RSm.w0 {y : Int32} (h : RSm D rg cd vd N G r τ) : RSm D rg cd vd N G r (wr τ 123 0 y) := by
  have w : frM RAr [0] τ (wr τ 123 0 y) := frM_w rfl
  have w' : frM [] [0] τ (wr τ 123 0 y) := frM_w rfl
  exact h.toF (h.1.fr w' rfl ⟨rfl, rfl, rfl, rfl⟩) w
end TOF
/-- both are there: under way, or ended well -/
def THR (D : pgD) (rg : rgD) (cd : cdD) (T : tsD) (vd W : Nat → Nat) (M N : Nat) (G : tG) (rr : Nat → Nat) (R : Nat → Int32) (cs wd pgs ev M0 st c : Nat) (σ τ : tvS) : Prop :=
  ∃ (X : dyD) (K : List (Nat × Nat × Nat)) (i : Nat) (E : Nat → trE) (n : Nat) (ty : Nat → trE) (nr : Nat) (av : Nat → Prop) (Lv dd : Nat) (fn : Nat → Nat × Nat) (s : cSt) (oa : Nat → Nat) (fil mt : Nat) (pl : Nat → Nat) (pg : Nat → List Nat) (fl : List Nat) (bk : Nat → Nat) (a : Nat),
    RGI D rg cd T vd W M wd X K i E n ty nr av Lv dd st ∧ (RSm D rg cd vd N G rr τ ∧ MCt K τ ∧ MFr X i τ ∧ MSk fn s X n nr st oa fil mt pgs wd ev τ ∧ rd τ 123 122 = i32 (c : Int)) ∧
    (RSc D rg cd cs σ ∧ CPs D X n nr wd pgs s pl pg fl σ ∧ CMf rg X bk i σ ∧ CMc fn X.B X.no st ev nr (wr σ 117 5 1) ∧ rd σ 117 5 = i32 (c : Int) ∧ rd σ 95 = R) ∧ (mt ≤ M0 + 3 * X.no ∧ s.cp ≤ M0 + 80001) ∧
    ((c = 1 ∧ rd σ 117 8 = i32 (a : Int) ∧ AT D rg cd R cs X.ff bk K i a n) ∨ (c = 2 ∧ K = [] ∧ i = 0 ∧ n = 1))
section GCOP
variable {L : Nat} {xs : Nat → Int32} {σ σ' σ1 τ τ' τ1 : tvS} {D : pgD} {m : Nat} {rg : rgD} {cd : cdD} {T : tsD} {vd W : Nat → Nat} {M wd pgs ev N : Nat} {G : tG} {rr : Nat → Nat} {R : Nat → Int32} {cs : Nat} {X : dyD} {K : List (Nat × Nat × Nat)} {i : Nat} {E : Nat → trE} {n : Nat} {ty : Nat → trE} {nr : Nat} {av : Nat → Prop} {Lv dd st c : Nat} {fn : Nat → Nat × Nat} {s : cSt} {oa : Nat → Nat} {fil mt : Nat} {pl : Nat → Nat} {pg : Nat → List Nat} {fl : List Nat} {bk : Nat → Nat} {M0 μ : Nat}
theorem CMc.five (h : CMc fn X.B X.no st ev nr σ) : CMc fn X.B X.no st ev nr (wr σ 117 5 1) := h.fr (fun q _ => wr_nek (by decide)) (fun q hq => by
  by_cases e : q = 5
  · subst e; rw [wr_self]; exact h.2.2.2.2.1.symm
  · exact wr_nei e) (fun j hj q => wr_nek (by omega))
theorem RUN.thr (h : RUN D rg cd T vd W M N G rr R cs wd pgs ev M0 st μ σ τ) : THR D rg cd T vd W M N G rr R cs wd pgs ev M0 st 1 σ τ := by
  obtain ⟨X, K, i, E, n, ty, nr, av, Lv, dd, fn, s, oa, fil, mt, pl, pg, fl, bk, a, h1, ⟨h2, h3, h4, h5, h6⟩, ⟨h7, h8, h9, h10, h11, h12⟩, h13, h14, _⟩ := h
  exact ⟨X, K, i, E, n, ty, nr, av, Lv, dd, fn, s, oa, fil, mt, pl, pg, fl, bk, a, h1, ⟨h2, h3, h4, h5, h6⟩, ⟨h7, h8, h9, h10.five, h10.2.2.2.2.1, h12⟩, h14, .inl ⟨rfl, h11, h13⟩⟩
theorem FIN.thr (h : FIN D rg cd T vd W M N G rr R cs wd pgs ev M0 st σ τ) : THR D rg cd T vd W M N G rr R cs wd pgs ev M0 st 2 σ τ := by
  obtain ⟨X, E, ty, nr, av, Lv, dd, fn, s, oa, fil, mt, pl, pg, fl, bk, h1, h2, ⟨h7, h8, h9, h10, h11, h12⟩, h14⟩ := h
  exact ⟨X, [], 0, E, 1, ty, nr, av, Lv, dd, fn, s, oa, fil, mt, pl, pg, fl, bk, 0, h1, h2, ⟨h7, h8, h9, h10, h11, h12⟩, h14, .inr ⟨rfl, rfl, rfl, rfl⟩⟩
theorem THR.run (h : THR D rg cd T vd W M N G rr R cs wd pgs ev M0 st 1 σ τ) : ∃ μ, RUN D rg cd T vd W M N G rr R cs wd pgs ev M0 st μ σ τ := by
  obtain ⟨X, K, i, E, n, ty, nr, av, Lv, dd, fn, s, oa, fil, mt, pl, pg, fl, bk, a, h1, ⟨h2, h3, h4, h5, h6⟩, ⟨h7, h8, h9, h10, h11, h12⟩, h14, h15⟩ := h
  rcases h15 with ⟨_, h16, h17⟩ | ⟨q, _⟩
  · refine ⟨_, X, K, i, E, n, ty, nr, av, Lv, dd, fn, s, oa, fil, mt, pl, pg, fl, bk, a, h1, ⟨h2, h3, h4, h5, h6⟩, ⟨h7, h8, h9, h10.fr (fun q _ => (wr_nek (by decide)).symm) (fun q hq => ?_) (fun j hj q => (wr_nek (by omega)).symm), h16, h12⟩, h17, h14, rfl⟩
    by_cases e : q = 5
    · subst e; rw [wr_self]; exact h11
    · exact (wr_nei e).symm
  · omega
theorem THR.fin (h : THR D rg cd T vd W M N G rr R cs wd pgs ev M0 st 2 σ τ) : FIN D rg cd T vd W M N G rr R cs wd pgs ev M0 st σ τ := by
  obtain ⟨X, K, i, E, n, ty, nr, av, Lv, dd, fn, s, oa, fil, mt, pl, pg, fl, bk, a, h1, h2, h3, h14, h15⟩ := h
  rcases h15 with ⟨q, _⟩ | ⟨_, e1, e2, e3⟩
  · omega
  · subst e1; subst e2; subst e3
    exact ⟨X, E, ty, nr, av, Lv, dd, fn, s, oa, fil, mt, pl, pg, fl, bk, h1, h2, h3, h14⟩
/-- a collection of both -/
theorem gc_both (hE : ENV D m rg cd T vd W M wd pgs ev) (hG : RGI D rg cd T vd W M wd X K i E n ty nr av Lv dd st) (hM : MSk fn s X n nr st oa fil mt pgs wd ev τ) (hR : RSc D rg cd cs σ) (hP : CPs D X n nr wd pgs s pl pg fl σ) (hcp : s.cp + 30000 < 10000000) (hmt : mt + 1 < 2147483648) (dc dm : Nat) :
    (∃ (Nq : Nat) (s' : cSt) (σ' τ' : tvS) (pl' : Nat → Nat) (pg' : Nat → List Nat) (fl' : List Nat), Nq ≤ 30000 ∧ s'.cp = s.cp + Nq ∧ rn L xs (dc + 6) 231 0 [.ref 103, jv, jv] [] σ = some (.inl (some (.int 1)), σ') ∧ rn L xs (dm + 2) 404 0 [.ref 123, jv, jv, jv, jv, jv, jv, jv] [] τ = some (.inl (some (.int 1)), τ') ∧ CPs D X n nr wd pgs s' pl' pg' fl' σ' ∧ MSk fn s' X n nr st oa fil (mt + 1) pgs wd ev τ' ∧ rd σ' 103 26 = i32 (Nq : Int) ∧ (frW COF σ σ' ∧ ∀ q, q ≠ 8 → q ≠ 9 → q ≠ 10 → q ≠ 22 → q ≠ 23 → q ≠ 26 → rd σ' 103 q = rd σ 103 q) ∧ frM [219, 220, 221, 222, 223, 224, 232, 233] [125, 126, 127, 128, 130, 162] τ τ') ∨
    (∃ (σ' τ1 τ' : tvS), rn L xs (dc + 6) 231 0 [.ref 103, jv, jv] [] σ = some (.inl (some (.int 0)), σ') ∧ GFa pgs σ σ' ∧ rn L xs (dm + 2) 404 0 [.ref 123, jv, jv, jv, jv, jv, jv, jv] [] τ = some (.inl (some (.int 0)), τ') ∧ MCn (st, s.cl, s.cp, s.U, pgs) X.B τ1 ∧ MMk (mt + 1) X.no τ1 ∧ frM [222, 223, 224, 232, 233] [128, 130, 162] τ τ1 ∧ MEn 5 τ1 τ') := by
  have hno := hG.no_le
  have hokS := okQ_stQ (sv := X.sv) (show X.no < 2147483648 by omega) n hG.vok
  obtain ⟨Nq, n1, n2, n3⟩ := bf_end (hp := X.hp) (no := X.no) (by omega) hG.2.2.2.1.1 hokS
  have hLQ : LVQ X (stQ X.sv n) n nr wd := fun k o ho => by
    have hr := met_reach hG.2.2.2.1.1 (by omega) hG.vok k o ho
    obtain ⟨o1, o2, o3, o4, _⟩ := hG.rco hr
    exact ⟨⟨o3, o4⟩, hr, hG.2.2.2.1.2.2 o o1 o2⟩
  obtain ⟨A, hA⟩ : ∃ A, A = alQ X.hp wd (bfQ X.hp (stQ X.sv n) Nq) Nq := ⟨_, rfl⟩
  obtain ⟨h1, h2, h3, h4⟩ := hP
  obtain ⟨m1, m2, ⟨m3, m3'⟩, m4, m5, m6, m7, m8, m9⟩ := hM
  obtain ⟨k1, k2, ks, k3⟩ := id m5
  have hgr := hG.gch hE
  have hc := collect_m (L := L) (xs := xs) (τ0 := τ) hG.2.2.2.1.1 m1 m2 m3 m3' m4 hG.vkd hG.vok hLQ hno hE.2.2.1.2.1 hmt k1 hE.2.2.1.2.2.2.1 k2 m7 m8 n1 n2 jv jv jv jv jv jv jv dm
  rw [← hA] at hc
  rcases collect_c (L := L) (xs := xs) hgr hR.2.2.2.1 h1 h2 h3 h4 hG.vok n1 n2 hA dc with ⟨s', σ', np, pg', fl', b1, b2, b3, b4, b5, b6, b7, b8⟩ | ⟨σ', b1, b2, b3⟩
  · rcases hc with ⟨g1, τ', t1, t2, t3, t4, t5⟩ | ⟨g1, _⟩
    · have e' : coC A Nq pgs s = .inl (A.1, s.cl + 1, s.cp + Nq, A.2, max s.pk (s.U + A.2)) := by unfold coC; rw [if_pos g1]
      rw [e'] at b1
      injection b1 with b1
      obtain ⟨a1, a2⟩ := alQ_bound (hp := X.hp) (wd := wd) (Q := bfQ X.hp (stQ X.sv n) Nq) (fun o ho => (hLQ Nq o ho).2.2) Nq
      have hs := alQ_sum (hp := X.hp) (wd := wd) (nr := nr) (Q := bfQ X.hp (stQ X.sv n) Nq) (fun o ho => (hLQ Nq o ho).1.1) Nq
      rw [← hA] at a1 a2 hs
      have hok' : oSt s' nr wd pgs X.no := by
        rw [← b1]
        exact ⟨by show A.2 ≤ max s.pk (s.U + A.2); omega, by show max s.pk (s.U + A.2) ≤ pgs; omega, hs, fun r _ => ⟨by have := (a1 r).1; show (A.1 r).1 ≤ X.no; omega, (a1 r).2.2⟩⟩
      have hcp' : s'.cp = s.cp + Nq := by rw [← b1]; rfl
      refine .inl ⟨Nq, s', σ', τ', np, pg', fl', by omega, hcp', b2, t1, ⟨b3, b4, b5, hok'⟩, ⟨m1.fr t5 rfl rfl rfl, m2.fr t5 ⟨rfl, rfl, rfl, rfl, rfl, rfl, rfl, rfl, rfl⟩ ⟨rfl, rfl⟩, ⟨?_, ?_⟩, t4, hok', by omega, by rw [t5.2 119 rfl]; exact m7, by rw [t5.2 120 rfl]; exact m8, by rw [t5.2 121 rfl]; exact m9⟩, b6, ⟨b7, b8⟩, t5⟩
      · rw [← b1]; exact t2
      · rw [← b1]; exact t3
    · have e' : coC A Nq pgs s = .inr (5, (s.R, s.cl, s.cp, s.U, pgs)) := by unfold coC; rw [if_neg (by omega)]
      rw [e'] at b1; cases b1
  · rcases hc with ⟨g1, _⟩ | ⟨g1, τ1, τ', t1, t2, t3, t4, t5⟩
    · have e' : coC A Nq pgs s = .inl (A.1, s.cl + 1, s.cp + Nq, A.2, max s.pk (s.U + A.2)) := by unfold coC; rw [if_pos g1]
      rw [e'] at b1; cases b1
    · exact .inr ⟨σ', τ1, τ', b2, b3, t1, t3, t4, t2, t5⟩
end GCOP
