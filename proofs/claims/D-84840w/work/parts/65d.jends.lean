/-! RUNS, BOTH: what a step brings; ends of parts -/
/-- both are under way -/
def RUN (D : pgD) (rg : rgD) (cd : cdD) (T : tsD) (vd W : Nat → Nat) (M N : Nat) (G : tG) (rr : Nat → Nat) (R : Nat → Int32) (cs wd pgs ev M0 st μ : Nat) (σ τ : tvS) : Prop :=
  ∃ (X : dyD) (K : List (Nat × Nat × Nat)) (i : Nat) (E : Nat → trE) (n : Nat) (ty : Nat → trE) (nr : Nat) (av : Nat → Prop) (Lv dd : Nat) (fn : Nat → Nat × Nat) (s : cSt) (oa : Nat → Nat) (fil mt : Nat) (pl : Nat → Nat) (pg : Nat → List Nat) (fl : List Nat) (bk : Nat → Nat) (a : Nat),
    RGI D rg cd T vd W M wd X K i E n ty nr av Lv dd st ∧ RMm D rg cd vd N G rr wd pgs ev X K i n nr fn s st oa fil mt τ ∧ RMc D rg cd R cs wd pgs ev X i n nr fn s st pl pg fl bk a σ ∧ AT D rg cd R cs X.ff bk K i a n ∧ (mt ≤ M0 + 3 * X.no ∧ s.cp ≤ M0 + 80001) ∧ wtK K = μ
/-- both are over -/
def OVR (D : pgD) (rg : rgD) (cd : cdD) (vd : Nat → Nat) (N : Nat) (G : tG) (rr : Nat → Nat) (R : Nat → Int32) (cs wd pgs ev M0 st : Nat) (σ τ : tvS) : Prop :=
  ∃ (c : Nat) (s : cSt) (B no mt : Nat), (3 ≤ c ∧ c ≤ 6) ∧ CVR st c s B no pgs wd ev σ ∧ RSc D rg cd cs σ ∧ rd σ 95 = R ∧ MVR st c s B no mt τ ∧ RSm D rg cd vd N G rr τ ∧ mt ≤ M0 + 90010
/-- one step of both -/
def JST (L : Nat) (xs : Nat → Int32) (d : Nat) (D : pgD) (rg : rgD) (cd : cdD) (T : tsD) (vd W : Nat → Nat) (M N : Nat) (G : tG) (rr : Nat → Nat) (R : Nat → Int32) (cs wd pgs ev M0 st μ : Nat) (σ τ : tvS) : Prop :=
  ∃ σ' τ' : tvS, MGo L xs d τ τ' ∧ frW RCr σ σ' ∧ frM RAr RFl τ τ' ∧ ((CGo L xs d σ σ' ∧ ∃ μ', μ' < μ ∧ RUN D rg cd T vd W M N G rr R cs wd pgs ev M0 st μ' σ' τ') ∨ (CEn L xs d σ σ' ∧ OVR D rg cd vd N G rr R cs wd pgs ev M0 st σ' τ'))
theorem coO_cp {A : alD} {N pgs C : Nat} {s s' : cSt} (h : coO A N pgs s = .inl s') (hN : N ≤ 30000) (hC : s.cp ≤ C) (h8 : 80000 ≤ C) : s'.cp ≤ C := by
  unfold coO at h
  by_cases c : s.cp < 50000
  · rw [if_pos c] at h
    unfold coC at h
    by_cases c2 : s.U + A.2 ≤ pgs
    · rw [if_pos c2] at h
      injection h with h
      rw [← h]
      show s.cp + N ≤ C
      omega
    · rw [if_neg c2] at h; cases h
  · rw [if_neg c] at h; cases h
theorem fitP_cp {wd pgs r sz : Nat} {s s' : cSt} (h : fitP wd pgs s r sz = some s') : s'.cp = s.cp := by
  unfold fitP at h
  split at h
  · injection h with h; rw [h]
  · split at h
    · injection h with h; rw [← h]; rfl
    · cases h
theorem putP_cp {A : alD} {N wd pgs ev no r sz C : Nat} {s s' : cSt} (h : putP A N wd pgs ev no s r sz = .inl s') (hN : N ≤ 30000) (hC : s.cp ≤ C) (h8 : 80000 ≤ C) : s'.cp ≤ C := by
  unfold putP at h
  by_cases c : wd < sz
  · rw [if_pos c] at h; cases h
  · rw [if_neg c] at h
    cases h1 : evP A N pgs ev no s with
    | inr e => rw [h1] at h; cases h
    | inl s1 =>
      rw [h1] at h
      have hc1 : s1.cp ≤ C := by
        unfold evP at h1
        split at h1
        · exact coO_cp h1 hN hC h8
        · injection h1 with h1; rw [← h1]; exact hC
      have h : (match fiP A N wd pgs s1 r sz with | .inr e => (.inr e : cSt ⊕ (Nat × cSt)) | .inl s2 => .inl (plP s2 r sz)) = .inl s' := h
      cases h2 : fiP A N wd pgs s1 r sz with
      | inr e => rw [h2] at h; cases h
      | inl s2 =>
        rw [h2] at h
        injection h with h
        rw [← h]
        show s2.cp ≤ C
        unfold fiP at h2
        cases h3 : fitP wd pgs s1 r sz with
        | some s3 =>
          rw [h3] at h2
          injection h2 with h2
          rw [← h2, fitP_cp h3]; exact hc1
        | none =>
          rw [h3] at h2
          have h2 : (match coO A N pgs s1 with | .inr e => (.inr e : cSt ⊕ (Nat × cSt)) | .inl s4 => match fitP wd pgs s4 r sz with | some s5 => .inl s5 | none => .inr (5, s4)) = .inl s2 := h2
          cases h4 : coO A N pgs s1 with
          | inr e => rw [h4] at h2; cases h2
          | inl s4 =>
            rw [h4] at h2
            have h2 : (match fitP wd pgs s4 r sz with | some s5 => (.inl s5 : cSt ⊕ (Nat × cSt)) | none => .inr (5, s4)) = .inl s2 := h2
            cases h5 : fitP wd pgs s4 r sz with
            | none => rw [h5] at h2; cases h2
            | some s5 =>
              rw [h5] at h2
              injection h2 with h2
              rw [← h2, fitP_cp h5]
              exact coO_cp h4 hN hc1 h8
theorem PUH.n_le {X : dyD} {n nr wd N : Nat} {A : alD} (h : PUH X n nr wd N A) : N ≤ 30000 := by
  obtain ⟨h1, h2, h3, h4, h5, h6, h7, _⟩ := h
  have := (okQ_bfQ (show X.no < 2147483648 by omega) h1 (okQ_stQ (show X.no < 2147483648 by omega) n h3) N).len
  omega
section JENDS
variable {L : Nat} {xs : Nat → Int32} {σ σ' σ1 τ τ' : tvS} {D : pgD} {m : Nat} {rg : rgD} {cd : cdD} {T : tsD} {vd W : Nat → Nat} {M wd pgs ev N : Nat} {G : tG} {rr : Nat → Nat} {R : Nat → Int32} {cs : Nat} {X X' : dyD} {K K' : List (Nat × Nat × Nat)} {i : Nat} {E : Nat → trE} {n n' : Nat} {ty : Nat → trE} {nr nr' : Nat} {av : Nat → Prop} {Lv dd st w p b a κ : Nat} {fn fn' : Nat → Nat × Nat} {s s' : cSt} {oa : Nat → Nat} {fil mt : Nat} {pl : Nat → Nat} {pg : Nat → List Nat} {fl : List Nat} {bk : Nat → Nat} {d M0 : Nat}
theorem ownN_len {f : Nat} : (ownN rg f p).length ≤ rg.nK f := nfil_len _
/-- parts under way are of the program -/
theorem TK.rng : ∀ (K : List (Nat × Nat × Nat)) (i : Nat) (E : Nat → trE) (n : Nat) (ty : Nat → trE) (nr : Nat) (av : Nat → Prop) (L dd : Nat), (∀ j, j ≤ i → X.ff j ≤ D.fc) → TK D rg cd T vd X K i E n ty nr av L dd → ∀ e, e ∈ K → e.1 = 7 → ∃ f, f ≤ D.fc ∧ D.bP f ≤ e.2.1 ∧ e.2.1 < D.bP (f + 1) := by
  intro K
  induction K with
  | nil => intro i E n ty nr av L dd _ _ e he; exact (List.not_mem_nil he).elim
  | cons x K ih =>
    obtain ⟨w, p, b⟩ := x
    intro i E n ty nr av L dd hf h e he e7
    rcases h with ⟨h0, h1, h2, h3⟩ | ⟨h0, h1, h2, h3, h4, h5, E0, av0, nr0, L0, dd0, k1, k2, k3, k4, k5, k6, k7, k8, k9⟩ | ⟨h0, i0, p', b', K', E0, av0, L0, dd0, k1, k2, k3, k4, k5⟩ | ⟨h0, h1, h2, h3, h3', h4, h5⟩
    · rcases List.mem_cons.mp he with q | q
      · subst q; have e7 : w = 7 := e7; omega
      · exact ih _ _ _ _ _ _ _ _ hf h3 e q e7
    · rcases List.mem_cons.mp he with q | q
      · subst q; exact ⟨X.ff i, hf i (Nat.le_refl _), h4, h5⟩
      · exact ih _ _ _ _ _ _ _ _ hf k9 e q e7
    · rcases List.mem_cons.mp he with q | q
      · subst q; have e7 : w = 7 := e7; omega
      · exact ih _ _ _ _ _ _ _ _ (fun j hj => hf j (by omega)) k5 e q e7
    · rcases List.mem_cons.mp he with q | q
      · subst q
        have e7 : w = 7 := e7
        rcases h0 with ⟨q, _⟩ | ⟨q, _⟩ | ⟨q, _⟩ | ⟨q, _⟩ | ⟨q, _⟩ | ⟨q, _⟩ <;> omega
      · refine ih _ _ _ _ _ _ _ _ hf (h5 (X.bs i + cd.hg p + 1) (uq ty (X.bs i + cd.hg p) (E (T.oC p))) (by omega) (fun k hk => uq_ne (by omega)) ?_) e q e7
        rw [Nat.add_sub_cancel, uq_self]
theorem ENV.cwl (hE : ENV D m rg cd T vd W M wd pgs ev) {f : Nat} (hf : f ≤ D.fc) (h1 : D.bP f ≤ p) (h2 : p < D.bP (f + 1)) : cwt D p ≤ W p := by
  by_cases c : D.K p = 3
  · obtain ⟨g1, _⟩ := ((hE.1.1.2.2 f hf).2.2.1 p h1 h2).2.2.2.1 c
    have := hE.2.1.1 f p 0 ((D.kd p).getD 0 0) hf h1 h2 (by rw [List.getD_eq_getElem?_getD, List.getElem?_eq_getElem (by omega)]; rfl)
    omega
  · have : cwt D p = 0 := by unfold cwt; rw [if_neg c]
    omega
theorem RGI.lu_le (hE : ENV D m rg cd T vd W M wd pgs ev) (h : RGI D rg cd T vd W M wd X K i E n ty nr av Lv dd st) : lu D K ≤ M := by
  obtain ⟨h1, _, _, _, h4, _, h5, h6, h7, h8, h9⟩ := h
  refine SPI.use K h8 h5 (fun e he e7 => ?_) h7 0 1 h5
  obtain ⟨f, f1, f2, f3⟩ := TK.rng K i E n ty nr av Lv dd h4 h1 e he e7
  exact hE.cwl f1 f2 f3
theorem RGI.kle (hE : ENV D m rg cd T vd W M wd pgs ev) (h : RGI D rg cd T vd W M wd X K i E n ty nr av Lv dd st) (hi : i ≤ 300) : K.length + 20 < 130000 := h.klen hE.2.1.2.2 hi (h.lu_le hE)
theorem AT.ends (h : AT D rg cd R cs X.ff bk ((7, p, b) :: K) i a n) : ∃ sl e b', TLc R a sl e ∧ n = b + 1 + sl ∧ LVc rg R (X.ff i) p e b' ∧ AT D rg cd R cs X.ff bk K i b' (b + 1) := by
  rcases h with ⟨q, _⟩ | ⟨_, h⟩ | ⟨q, _⟩ | ⟨q, _⟩ | ⟨q, _⟩ | ⟨q, _⟩ | ⟨q, _⟩ | ⟨q, _⟩ | ⟨q, _⟩ | ⟨q, _⟩
  · omega
  · exact h
  all_goals omega
theorem MGo.refl : MGo L xs d τ τ := fun _ _ => rfl
theorem MGo.trans {τ1 : tvS} (h : MGo L xs d τ τ1) (g : MGo L xs d τ1 τ') : MGo L xs d τ τ' := fun x1 x2 => (h x1 x2).trans (g x1 x2)
/-- the ghost, when a part is over -/
theorem RGI.ends (h : RGI D rg cd T vd W M wd X ((7, p, b) :: K) i E n ty nr av Lv dd st) (hx : X' = (uq X.sv b (X.sv (n - 1)), X.2)) : b < n ∧ (D.bP (X.ff i) ≤ p ∧ p < D.bP (X.ff i + 1)) ∧ ∃ (E0 : Nat → trE) (av0 : Nat → Prop) (nr0 L0 dd0 : Nat) (ty' : Nat → trE), nr0 + (ownN rg (X.ff i) p).length = nr ∧ RGI D rg cd T vd W M wd X' K i E0 (b + 1) ty' nr0 av0 L0 dd0 st := by
  have hno := h.no_le
  obtain ⟨h1, h2, h3, ⟨h4, h4', h4''⟩, h5, ⟨c1, c2, c3, c4, c5, c6⟩, g1, g2, g3, g4, g5⟩ := h
  obtain ⟨t1, t2, E0, av0, nr0, L0, dd0, ty', t3, t4, t5, t6⟩ := T_end h4 (by omega) h1 (fun k hk => ⟨(h3 k hk).1, (h3 k hk).2.1⟩) hx
  refine ⟨t1, t2, E0, av0, nr0, L0, dd0, ty', t3, t5, by omega, fun k hk => ⟨(t6 k hk).1, (t6 k hk).2, ?_⟩, ?_, ?_, ?_, ?_⟩
  · rw [hx]
    show (uq X.sv b (X.sv (n - 1)) k).1 ≤ 2
    by_cases q : k = b
    · rw [q, uq_self]; exact (h3 (n - 1) (by omega)).2.2
    · rw [uq_ne q]; exact (h3 k (by omega)).2.2
  · rw [hx]; exact ⟨h4, h4', h4''⟩
  · rw [hx]; exact h5
  · have o1 : opN ((7, p, b) :: K) = (if 1 ≤ 7 ∧ 7 ≤ 6 then 1 else 0) + opN K := rfl
    have o2 : nE ((7, p, b) :: K) = (if 7 = 7 then 1 else 0) + nE K := rfl
    rw [if_neg (by omega)] at o1
    rw [if_pos rfl] at o2
    rw [hx]
    refine ⟨?_, by omega, c3, c4, c5, fun r hr => c6 r (by omega)⟩
    show X.no + opN K ≤ st
    omega
  · rcases g1 with ⟨q, _⟩ | ⟨_, _, q⟩ | ⟨q, _⟩ | ⟨_, q, _⟩
    · omega
    · exact ⟨KGr.up _ _ _ q, by have o3 : nR ((7, p, b) :: K) = (if 7 = 8 then 1 else 0) + nR K := rfl; rw [if_neg (by omega)] at o3; omega, g3.2, g4.2, fun e he => g5 e (List.mem_cons_of_mem _ he)⟩
    · omega
    · omega
/-- a part is over -/
theorem J_ends (hE : ENV D m rg cd T vd W M wd pgs ev) (hG : RGI D rg cd T vd W M wd X ((7, p, b) :: K) i E n ty nr av Lv dd st) (hM : RMm D rg cd vd N G rr wd pgs ev X ((7, p, b) :: K) i n nr fn s st oa fil mt τ) (hC : RMc D rg cd R cs wd pgs ev X i n nr fn s st pl pg fl bk a σ) (hA : AT D rg cd R cs X.ff bk ((7, p, b) :: K) i a n) (hmt : mt ≤ M0 + 3 * X.no ∧ s.cp ≤ M0 + 80001) :
    JST L xs d D rg cd T vd W M N G rr R cs wd pgs ev M0 st (wtK ((7, p, b) :: K)) σ τ := by
  obtain ⟨X', hx⟩ : ∃ X', X' = (uq X.sv b (X.sv (n - 1)), X.2) := ⟨_, rfl⟩
  obtain ⟨t1, t2, E0, av0, nr0, L0, dd0, ty', t3, hG'⟩ := hG.ends hx
  have hfi := hG.2.2.2.2.1 i (Nat.le_refl _)
  have hP0 := hE.1.1.1
  have hkl := hG.kle hE hM.2.2.1.2.2.1
  have hkl : K.length + 1 + 20 < 130000 := hkl
  have hnK := hE.1.2.2.2.2.2.2.2.2 (X.ff i) hfi
  have how := fun k hk => hE.2.2.2.1 (X.ff i) k hfi hk
  have hpb : p < 6000 := by
    obtain ⟨q1, _⟩ := hE.1.1.le (D.fc + 1 - (X.ff i + 1)) (X.ff i + 1) (by omega)
    have := hP0.2.2.1
    omega
  have hRn : ∀ o, RCO X' (b + 1) o → RCO X n o := fun o ho => RCO.sub hx t1 ho
  obtain ⟨sl, e, b', a1, a2, a3, a4⟩ := hA.ends
  have hlt := AT.lt _ _ _ _ a4
  -- the component
  obtain ⟨σ1, y1, y2, y3⟩ := tail_go (L := L) (xs := xs) (d := d) (X' := X') hC a1 (by have := a3.le; omega) (by omega) (by rw [hx, show n - 1 - sl = b by omega]) (by rw [show n - sl = b + 1 by omega]; exact hRn) (fun k hk => (hG.2.2.1 k hk).2.2)
  rw [show n - sl = b + 1 by omega] at y2
  have hU : pgU s nr = s.U := hC.2.1.2.2.2.2.2.1
  obtain ⟨σ2, fl', z1, z2, z3⟩ := leave_go (L := L) (xs := xs) (d := d) y2 a3 (by omega) t3 hU (by have := ownN_len (rg := rg) (p := p) (f := X.ff i); omega)
  -- the model
  obtain ⟨m1, m2⟩ := hM.pop
  obtain ⟨τ1, u1, u2, u3⟩ := endp_m (L := L) (xs := xs) (X' := X') m1.1 m1.2.2.1 m1.2.2.2.1 rfl hfi hP0.1 hnK hpb how t1 t3 hx jv jv (d + 4)
  have hr : rn L xs (d + 6) 399 0 [.ref 123, .int (i32 ((7 : Nat) : Int)), .int (i32 (p : Int)), .int (i32 (b : Int))] [] (wr τ 123 135 (i32 (K.length : Int))) = some (.inl none, τ1) := by
    rw [e399_0, swk_of (sw399 7 (by omega)), show t399 7 = 262 from rfl, e399_262, bV_ok u1, e399_268]
  have w1 : frM RAr RFl τ τ1 := (m2.sub rfl rfl).trans (u3.sub rfl rfl)
  refine ⟨σ2, τ1, mgo_on hM.2.1 hM.2.2.2.2 (by omega) (by omega) hr, y3.trans z3, w1, .inl ⟨y1.trans z1, wtK K, ?_, X', K, i, E0, b + 1, ty', nr0, av0, L0, dd0, fn, lvS s nr0, oa, fil, mt, pl, pg, fl', bk, b', hG', ⟨m1.1.fr u3 rfl rfl rfl, m1.2.1.fr u3 rfl rfl rfl rfl, (m1.2.2.1.fr u3 rfl rfl rfl rfl rfl rfl).same (by rw [hx]; rfl) (by rw [hx]; rfl) (by rw [hx]; rfl), u2, by rw [u3.2 122 rfl]; exact m1.2.2.2.2⟩, z2, by rw [hx]; exact a4, by rw [hx]; exact hmt, rfl⟩⟩
  show _ < (if 7 = 0 then 0 else if 7 = 5 ∨ 7 = 6 then 3 else 1) + wtK K
  rw [if_neg (by omega), if_neg (by omega)]
  omega
end JENDS
