/-! RUNS, BOTH: go -/
/-- both have ended well -/
def FIN (D : pgD) (rg : rgD) (cd : cdD) (T : tsD) (vd W : Nat → Nat) (M N : Nat) (G : tG) (rr : Nat → Nat) (R : Nat → Int32) (cs wd pgs ev M0 st : Nat) (σ τ : tvS) : Prop :=
  ∃ (X : dyD) (E : Nat → trE) (ty : Nat → trE) (nr : Nat) (av : Nat → Prop) (Lv dd : Nat) (fn : Nat → Nat × Nat) (s : cSt) (oa : Nat → Nat) (fil mt : Nat) (pl : Nat → Nat) (pg : Nat → List Nat) (fl : List Nat) (bk : Nat → Nat),
    RGI D rg cd T vd W M wd X [] 0 E 1 ty nr av Lv dd st ∧ (RSm D rg cd vd N G rr τ ∧ MCt [] τ ∧ MFr X 0 τ ∧ MSk fn s X 1 nr st oa fil mt pgs wd ev τ ∧ rd τ 123 122 = 2) ∧
    (RSc D rg cd cs σ ∧ CPs D X 1 nr wd pgs s pl pg fl σ ∧ CMf rg X bk 0 σ ∧ CMc fn X.B X.no st ev nr (wr σ 117 5 1) ∧ rd σ 117 5 = 2 ∧ rd σ 95 = R) ∧ mt ≤ M0 + 3 * X.no ∧ s.cp ≤ M0 + 80001
section JGO
variable {L : Nat} {xs : Nat → Int32} {σ σ' σ1 τ τ' τ1 : tvS} {D : pgD} {m : Nat} {rg : rgD} {cd : cdD} {T : tsD} {vd W : Nat → Nat} {M wd pgs ev N : Nat} {G : tG} {rr : Nat → Nat} {R : Nat → Int32} {cs : Nat} {X X' X0 : dyD} {K K' : List (Nat × Nat × Nat)} {i : Nat} {E E' E0 : Nat → trE} {n n' : Nat} {ty ty' : Nat → trE} {nr nr' nr0 : Nat} {av av' av0 : Nat → Prop} {Lv dd dd' st w p b a κ q c j k e b' dc f : Nat} {fn fn' : Nat → Nat × Nat} {s s' : cSt} {oa : Nat → Nat} {fil mt : Nat} {pl : Nat → Nat} {pg : Nat → List Nat} {fl : List Nat} {bk ff : Nat → Nat} {d M0 B no μ : Nat} {x : obD} {t : trE} {sv : Nat → vaL}
/-- any entry but a beginning -/
theorem J_step (hE : ENV D m rg cd T vd W M wd pgs ev) (hG : RGI D rg cd T vd W M wd X ((w, p, b) :: K) i E n ty nr av Lv dd st) (hM : RMm D rg cd vd N G rr wd pgs ev X ((w, p, b) :: K) i n nr fn s st oa fil mt τ) (hC : RMc D rg cd R cs wd pgs ev X i n nr fn s st pl pg fl bk a σ) (hA : AT D rg cd R cs X.ff bk ((w, p, b) :: K) i a n) (hmt : mt ≤ M0 + 3 * X.no ∧ s.cp ≤ M0 + 80001) (hM0 : M0 ≤ 2000000000) (hw : w ≠ 0) :
    JST L xs d D rg cd T vd W M N G rr R cs wd pgs ev M0 st (wtK ((w, p, b) :: K)) σ τ := by
  have hG1 := hG.2.2.2.2.2.2.1
  rcases hG1 with ⟨q, _⟩ | ⟨q, _⟩ | ⟨q, _⟩ | ⟨q1, q2, _⟩
  · exact absurd q hw
  · subst q; exact J_ends hE hG hM hC hA hmt
  · subst q; exact J_ret hE hG hM hC hA hmt
  · have hW := (TK.on hG.1 ⟨q1, q2⟩).1
    rcases hW with ⟨w1, hκ⟩ | ⟨w1, hκ⟩ | ⟨w1, hκ⟩ | ⟨w1, hκ⟩ | ⟨w1, hκ⟩ | ⟨w1, hκ⟩
    · subst w1
      by_cases c : D.K p = 4 ∨ D.K p = 16
      · exact J_two hE hG hM hC hA hmt hM0 c
      · by_cases c2 : D.K p = 5 ∨ D.K p = 6
        · exact J_take hE hG hM hC hA hmt c2
        · exact J_reck hE hG hM hC hA hmt (by omega)
    · subst w1; exact J_if hE hG hM hC hA hmt
    · subst w1; exact J_let hE hG hM hC hA hmt
    · subst w1; exact J_case hE hG hM hC hA hmt
    · subst w1; exact J_call hE hG hM hC hA hmt
    · subst w1; exact J_appl hE hG hM hC hA hmt
/-- what comes of go -/
def GOO (L : Nat) (xs : Nat → Int32) (d : Nat) (D : pgD) (rg : rgD) (cd : cdD) (T : tsD) (vd W : Nat → Nat) (M N : Nat) (G : tG) (rr : Nat → Nat) (R : Nat → Int32) (cs wd pgs ev M0 k st0 st : Nat) (σ τ : tvS) : Prop :=
  ∃ (σ' τ' : tvS) (st' : Nat), (st0 ≤ st' ∧ st' ≤ 30000) ∧ rn L xs (d + 12) 260 4 [.ref 117, .int (i32 (k : Int)), .int (i32 ((st - st0 : Nat) : Int)), .int 1] [] σ = some (.inl (some (.int (i32 ((st' - st0 : Nat) : Int)))), σ') ∧ rn L xs (d + 7) 398 46 [.ref 123, .int (i32 (k : Int)), .int (i32 (st0 : Int)), .int 1] [] τ = some (.inl (some (.int (i32 ((st' - st0 : Nat) : Int)))), τ') ∧ frW RCr σ σ' ∧ frM RAr RFl τ τ' ∧
    ((∃ μ, RUN D rg cd T vd W M N G rr R cs wd pgs ev M0 st' μ σ' τ') ∨ OVR D rg cd vd N G rr R cs wd pgs ev M0 st' σ' τ' ∨ FIN D rg cd T vd W M N G rr R cs wd pgs ev M0 st' σ' τ')
/-- the model stops -/
theorem mgo_stop {st0 : Nat} {x1 x3 : Int32} (h : rd τ 123 122 ≠ 1 ∨ x3 = 0) (hs : rd τ 123 123 = i32 (st : Int)) (h0 : st0 ≤ st) : rn L xs (d + 7) 398 46 [.ref 123, .int x1, .int (i32 (st0 : Int)), .int x3] [] τ = some (.inl (some (.int (i32 ((st - st0 : Nat) : Int)))), τ) := by
  have es : i32 (st : Int) - i32 (st0 : Int) = i32 ((st - st0 : Nat) : Int) := by rw [i32_sub]; congr 1; omega
  have e1 : rn L xs (d + 7) 398 200 [.ref 123, .int x1, .int (i32 (st0 : Int)), .int x3] [] τ = some (.inl (some (.int (i32 ((st - st0 : Nat) : Int)))), τ) := by rw [e398_200, hs, es]
  by_cases c : x3 = 0
  · rw [e398_46, show pv_c1 .eq x3 = true from decide_eq_true c, cond_true, e1]
  · have hh : rd τ 123 122 ≠ 1 := h.resolve_right c
    rw [e398_46, show pv_c1 .eq x3 = false from decide_eq_false c, cond_false, show pv_c2 .ne (rd τ 123 122) 1 = true from decide_eq_true hh, cond_true, e1]
theorem go_loop {st0 : Nat} (hE : ENV D m rg cd T vd W M wd pgs ev) (hM0 : M0 ≤ 2000000000) (hk : k ≤ 30000) : ∀ (z st μ : Nat) (σ τ : tvS), 5 * (30001 - st) + μ ≤ z → st0 ≤ st → st - st0 ≤ k → RUN D rg cd T vd W M N G rr R cs wd pgs ev M0 st μ σ τ → GOO L xs d D rg cd T vd W M N G rr R cs wd pgs ev M0 k st0 st σ τ := by
  intro z
  induction z with
  | zero =>
    intro st μ σ τ hz h0 h1 hR
    obtain ⟨X, K, i, E, n, ty, nr, av, Lv, dd, fn, s, oa, fil, mt, pl, pg, fl, bk, a, hG, _⟩ := hR
    have := hG.2.2.2.2.2.1.2.2.1
    omega
  | succ z ih =>
    intro st μ σ τ hz h0 h1 hR
    obtain ⟨X, K, i, E, n, ty, nr, av, Lv, dd, fn, s, oa, fil, mt, pl, pg, fl, bk, a, hG, hM, hC, hA, hmt, hμ⟩ := id hR
    have hst := hG.2.2.2.2.2.1.2.2.1
    have hno := hG.no_le
    have hp1 : 1 ≤ pgs := by have := hE.2.2.1.2.2.1; omega
    have h123 : rd τ 123 123 = i32 (st : Int) := hM.2.2.2.1.2.2.1.2.2.1
    cases K with
    | nil =>
      obtain ⟨i0, acs, hRa⟩ := hA
      subst i0
      obtain ⟨_, n1, _⟩ := id hG.1
      subst n1
      have hC' := hC.next
      obtain ⟨σ2, e2⟩ : ∃ σ2, σ2 = wr (wr σ 117 8 (i32 ((a + 1 : Nat) : Int))) 117 5 2 := ⟨_, rfl⟩
      have w2 : frW [117] σ σ2 := by rw [e2]; exact (frW_wr rfl).trans (frW_wr rfl)
      have q2 : ∀ z, z ≠ 8 → z ≠ 5 → rd σ2 117 z = rd σ 117 z := fun z hz hz' => by rw [e2, wr_nei hz', wr_nei hz]
      have hCe : CEn L xs d σ σ2 := cgo_end hC.1 hC.2.2.2.2.1 acs (κ := 27) (by rw [hC.at', hRa]; rfl) (by omega) (by rw [show t262 27 = 373 from rfl, e262_373 (d + 10), ← e2, e262_386]) (c := 2) (by rw [e2, wr_self]; rfl) (by omega)
      obtain ⟨τ2, t2⟩ : ∃ τ2, τ2 = wr τ 123 122 2 := ⟨_, rfl⟩
      have wt : frM [] [122] τ τ2 := by rw [t2]; exact frM_w rfl
      have hMg : rn L xs (d + 7) 398 46 [.ref 123, .int (i32 (k : Int)), .int (i32 (st0 : Int)), .int 1] [] τ = some (.inl (some (.int (i32 ((st - st0 : Nat) : Int)))), τ2) := by
        rw [e398_46, show pv_c1 .eq (1 : Int32) = false from rfl, cond_false, hM.2.2.2.2, show pv_c2 .ne (1 : Int32) 1 = false from rfl, cond_false, hM.2.1.1, show pv_c1 .ne (i32 ((([] : List (Nat × Nat × Nat)).length : Nat) : Int)) = false from rfl, cond_false, ← t2]
        exact mgo_stop (.inl (by rw [t2, wr_self]; decide)) (by rw [wt.2 123 rfl]; exact h123) h0
      refine ⟨σ2, τ2, st, ⟨h0, hst⟩, hCe _ _, hMg, w2.sub rfl, wt.sub rfl rfl, .inr (.inr ⟨X, E, ty, nr, av, Lv, dd, fn, s, oa, fil, mt, pl, pg, fl, bk, hG, ⟨hM.1.fr wt rfl rfl rfl, hM.2.1.fr wt rfl rfl rfl rfl, hM.2.2.1.fr wt rfl rfl rfl rfl rfl rfl, ?_, by rw [t2, wr_self]⟩, ⟨hC.1.fr w2 rfl, hC.2.1.fr w2 rfl, hC.2.2.1.fr (fun q hq => q2 q (by omega) (by omega)) (fun j hj q => w2.1 j (by rcases hj with e | e | e | e | e <;> rw [e] <;> rfl) q), ?_, by rw [e2, wr_self], by rw [← hC.2.2.2.2.2]; funext q; exact w2.1 95 rfl q⟩, hmt⟩)⟩
      · obtain ⟨m1, m2, ⟨m3, k1, k2, k3, k4, k5, k6, k7, k8⟩, m4, m5, m6, m7, m8, m9⟩ := hM.2.2.2.1
        exact ⟨m1.fr wt rfl rfl rfl, m2.fr wt ⟨rfl, rfl, rfl, rfl, rfl, rfl, rfl, rfl, rfl⟩ ⟨rfl, rfl⟩, ⟨m3.fr wt rfl rfl rfl rfl rfl rfl rfl, .inr (by rw [t2, wr_self]), by rw [wt.2 123 rfl]; exact k2, by rw [wt.2 125 rfl]; exact k3, by rw [wt.2 126 rfl]; exact k4, by rw [wt.2 127 rfl]; exact k5, by rw [wt.2 128 rfl]; exact k6, ⟨by rw [wt.2 129 rfl]; exact k7.1, k7.2⟩, by rw [wt.2 130 rfl]; exact k8⟩, m4.fr wt rfl rfl, m5, m6, by rw [wt.2 119 rfl]; exact m7, by rw [wt.2 120 rfl]; exact m8, by rw [wt.2 121 rfl]; exact m9⟩
      · obtain ⟨y1, y2, y3, y4, y5, y6, y7⟩ := hC.2.2.2.1
        have w3 : frW [117] σ (wr σ2 117 5 1) := w2.trans (frW_wr rfl)
        exact ⟨fun r hr => by rw [w3.1 108 rfl, w3.1 109 rfl]; exact y1 r hr, by rw [w3.1 103 rfl]; exact y2, y3, by rw [w3.1 103 rfl]; exact y4, wr_self _ _ _ _, by rw [wr_nei (by decide), q2 6 (by decide) (by decide)]; exact y6, by rw [wr_nei (by decide), q2 7 (by decide) (by decide)]; exact y7⟩
    | cons x K =>
      obtain ⟨w, p, b⟩ := x
      by_cases cw : w = 0
      · subst cw
        have hkl := hG.kle hE hM.2.2.1.2.2.1
        have hkl : K.length + 1 + 20 < 130000 := hkl
        have c135 : rd τ 123 135 = i32 ((K.length + 1 : Nat) : Int) := hM.2.1.1
        have em : i32 ((K.length + 1 : Nat) : Int) - 1 = i32 (K.length : Int) := by rw [show (1 : Int32) = i32 1 from rfl, i32_sub]; congr 1; omega
        have c209 : rd τ 209 K.length = i32 ((0 : Nat) : Int) := hM.2.1.2.1
        have c210 : rd τ 210 K.length = i32 (p : Int) := hM.2.1.2.2.1
        have hmh : ∀ x1 x2 : Int32, rn L xs (d + 7) 398 46 [.ref 123, .int x1, .int x2, .int 1] [] τ = rn L xs (d + 7) 398 131 [.ref 123, .int x1, .int x2, .int 1] [] τ := fun x1 x2 => by
          rw [e398_46 (d + 6), show pv_c1 .eq (1 : Int32) = false from rfl, cond_false, hM.2.2.2.2, show pv_c2 .ne (1 : Int32) 1 = false from rfl, cond_false, c135, c1_ne (by omega) (by omega), c_t (by omega), e398_73 (d + 6), c135, em, c_in (by omega) (by omega) (by omega), i32_ixn (by omega), c209, c1_eq (by omega) (by omega), c_t (by omega)]
        obtain ⟨dc, b'', A1, A2⟩ := hA.beg
        have hltA := AT.lt _ _ _ _ A2
        have hca := CA.lt _ _ _ _ A1
        have hRa : R a = 0 := by
          cases dc with
          | zero => exact A1.elim
          | succ dc => exact A1.1
        have h95 := hC.1.1
        have p1 : rn L xs (d + 11) 212 0 [.ref 94, .int (i32 (a : Int))] [] σ = some (.inl (some (.int 0)), σ) := by
          rw [e212_0, c_in (by omega) (by show (a : Int) < (ln σ 95 : Int); omega) (by omega), i32_ixn (by omega), hC.at', hRa]
        have hch : ∀ x1 x2 : Int32, rn L xs (d + 12) 260 4 [.ref 117, .int x1, .int x2, .int 1] [] σ = rn L xs (d + 12) 260 33 [.ref 117, .int x1, .int x2, .int 1] [] σ := fun x1 x2 => by
          rw [e260_4 (d + 11), show pv_c1 .eq (1 : Int32) = false from rfl, cond_false, hC.2.2.2.2.1, bI_ok p1, show pv_c1 .eq (0 : Int32) = true from rfl, cond_true]
        have h6 : rd σ 117 6 = i32 (st : Int) := hC.2.2.2.1.2.2.2.2.2.1
        by_cases c3 : st = 30000
        · -- no steps are left
          obtain ⟨σ2, y1, y2, y3⟩ := cend_c (L := L) (xs := xs) (c := 3) hC.2.1.1 hC.2.2.2.1 hp1 (d + 9)
          have y1 : rn L xs (d + 11) 252 0 [.ref 117, .int 3] [] σ = some (.inl none, σ2) := y1
          obtain ⟨τ2, u1, u2⟩ := end_m (L := L) (xs := xs) (τ := τ) 3 (d + 5)
          have u1 : rn L xs (d + 6) 395 0 [.ref 123, .int 3] [] τ = some (.inl none, τ2) := u1
          obtain ⟨g1, g2, g3⟩ := hM.over (frM.refl (S := []) (F := [])) rfl rfl hM.h130 u2
          refine ⟨σ2, τ2, st, ⟨h0, hst⟩, ?_, ?_, y3.sub rfl, g2, .inr (.inl ⟨3, s, X.B, X.no, mt, by omega, y2, hC.1.fr y3 rfl, by rw [← hC.2.2.2.2.2]; funext q; exact y3.1 95 rfl q, g1, g3, by omega⟩)⟩
          · rw [hch, e260_33 (d + 11), h6, show (30000 : Int32) = i32 30000 from rfl, c2_ne (by omega) (by omega) (by omega) (by omega), c_f (by omega), bV_ok y1]
            exact go_over y2.2.1.1 (by omega) (d + 11)
          · rw [hmh, e398_131 (d + 6), h123, show (30000 : Int32) = i32 30000 from rfl, c2_ne (by omega) (by omega) (by omega) (by omega), c_f (by omega), bV_ok u1]
            exact mgo_stop (.inl (by rw [g1.1.1]; decide)) g1.1.2.1 h0
        · have hes : i32 (st : Int) - i32 (st0 : Int) = i32 ((st - st0 : Nat) : Int) := by rw [i32_sub]; congr 1; omega
          by_cases c4 : st - st0 = k
          · -- it is enough for now
            refine ⟨σ, τ, st, ⟨h0, hst⟩, ?_, ?_, frW.refl, frM.refl, .inl ⟨μ, hR⟩⟩
            · rw [hch, e260_33 (d + 11), h6, show (30000 : Int32) = i32 30000 from rfl, c2_ne (by omega) (by omega) (by omega) (by omega), c_t (by omega), e260_51, c2_ne (by omega) (by omega) (by omega) (by omega), c_f (by omega), e260_84, show pv_c1 .eq (0 : Int32) = true from rfl, cond_true, e260_100, e260_101, e260_4 (d + 11), show pv_c1 .eq (0 : Int32) = true from rfl, cond_true, e260_105]
            · rw [hmh, e398_131 (d + 6), h123, show (30000 : Int32) = i32 30000 from rfl, c2_ne (by omega) (by omega) (by omega) (by omega), c_t (by omega), e398_149, h123, hes, c2_ne (by omega) (by omega) (by omega) (by omega), c_f (by omega)]
              exact mgo_stop (.inr rfl) h123 h0
          · -- a step
            have hb2 : st0 ≤ st + 1 := by omega
            have en : st + 1 - st0 = st - st0 + 1 := by omega
            have ed : i32 ((st - st0 : Nat) : Int) + 1 = i32 ((st + 1 - st0 : Nat) : Int) := by rw [en, show (1 : Int32) = i32 1 from rfl, i32_add]; congr 1
            have hb3 : st + 1 - st0 ≤ k := by omega
            obtain ⟨_, _, σ1, τ1, q1, q2, q3, q4⟩ := J_begin (L := L) (xs := xs) (d := d) hE hG hM hC hA hmt hM0 (by omega)
            have ea : i32 (a : Int) + 1 = i32 ((a + 1 : Nat) : Int) := by rw [show (1 : Int32) = i32 1 from rfl, i32_add]; congr 1
            have es : i32 (st : Int) + 1 = i32 ((st + 1 : Nat) : Int) := by rw [show (1 : Int32) = i32 1 from rfl, i32_add]; congr 1
            obtain ⟨σs, eσ⟩ : ∃ σs, σs = wr (wr σ 117 8 (i32 ((a + 1 : Nat) : Int))) 117 6 (i32 ((st + 1 : Nat) : Int)) := ⟨_, rfl⟩
            rw [← eσ] at q4
            have h5 : rd σs 117 5 = 1 := by rw [eσ, wr_nei (by decide), wr_nei (by decide)]; exact hC.2.2.2.1.2.2.2.2.1
            have hc1 : rn L xs (d + 12) 260 4 [.ref 117, .int (i32 (k : Int)), .int (i32 ((st - st0 : Nat) : Int)), .int 1] [] σ = rn L xs (d + 12) 260 4 [.ref 117, .int (i32 (k : Int)), .int (i32 ((st + 1 - st0 : Nat) : Int)), .int 1] [] σs := by
              rw [hch, e260_33 (d + 11), h6, show (30000 : Int32) = i32 30000 from rfl, c2_ne (by omega) (by omega) (by omega) (by omega), c_t (by omega), e260_51, c2_ne (by omega) (by omega) (by omega) (by omega), c_t (by omega), e260_61, hC.2.2.2.2.1, h6, ea, es, ed, ← eσ]
              exact go_more h5 (d + 11)
            have hm1 : rn L xs (d + 7) 398 46 [.ref 123, .int (i32 (k : Int)), .int (i32 (st0 : Int)), .int 1] [] τ = rn L xs (d + 7) 398 46 [.ref 123, .int (i32 (k : Int)), .int (i32 (st0 : Int)), .int 1] [] τ1 := by
              rw [hmh, e398_131 (d + 6), h123, show (30000 : Int32) = i32 30000 from rfl, c2_ne (by omega) (by omega) (by omega) (by omega), c_t (by omega), e398_149, h123, hes, c2_ne (by omega) (by omega) (by omega) (by omega), c_t (by omega), e398_164 (d + 6), c135, em, h123, es, c_in (by omega) (by omega) (by omega), i32_ixn (by omega), c210, bV_ok q1]
            rcases q4 with ⟨q5, μ', q6, q7⟩ | ⟨q5, q6⟩
            · rw [wtK_0] at hμ
              have hb1 : 5 * (30001 - (st + 1)) + μ' ≤ z := by clear q7 q5; omega
              obtain ⟨σ2, τ2, st', g0, g1, g2, g3, g4, g5⟩ := ih (st + 1) μ' σ1 τ1 hb1 hb2 hb3 q7
              exact ⟨σ2, τ2, st', g0, by rw [hc1, q5]; exact g1, by rw [hm1]; exact g2, q2.trans g3, q3.trans g4, g5⟩
            · obtain ⟨c, s', B', no', mt', h3, h4, h5', h6', h7, h8, h9⟩ := id q6
              refine ⟨σ1, τ1, st + 1, ⟨by omega, by omega⟩, by rw [hc1]; exact q5 _ _, ?_, q2, q3, .inr (.inl q6)⟩
              rw [hm1]
              exact mgo_stop (.inl (by rw [h7.1.1]; intro e; have := (i32_inj (a := (c : Int)) (b := 1) (by omega) (by omega) (by omega) (by omega)).mp e; omega)) h7.1.2.1 (by omega)
      · obtain ⟨σ1, τ1, q1, q2, q3, q4⟩ := J_step (L := L) (xs := xs) (d := d) hE hG hM hC hA hmt hM0 cw
        rcases q4 with ⟨q5, μ', q6, q7⟩ | ⟨q5, q6⟩
        · obtain ⟨σ2, τ2, st', g0, g1, g2, g3, g4, g5⟩ := ih st μ' σ1 τ1 (by omega) h0 h1 q7
          exact ⟨σ2, τ2, st', g0, by rw [q5]; exact g1, by rw [q1]; exact g2, q2.trans g3, q3.trans g4, g5⟩
        · obtain ⟨c, s', B', no', mt', h3, h4, h5', h6', h7, h8, h9⟩ := id q6
          refine ⟨σ1, τ1, st, ⟨h0, hst⟩, q5 _ _, ?_, q2, q3, .inr (.inl q6)⟩
          rw [q1]
          exact mgo_stop (.inl (by rw [h7.1.1]; intro e; have := (i32_inj (a := (c : Int)) (b := 1) (by omega) (by omega) (by omega) (by omega)).mp e; omega)) h7.1.2.1 h0
end JGO
