/-! COLLECTIONS, COMPONENT: one object after the other -/
section SCANLOOP
variable {L : Nat} {xs : Nat → Int32} {σ σ' σ0 : tvS} {D : pgD} {rg : rgD} {cd : cdD} {X : dyD} {n nr wd pgs k t o p r : Nat} {pl np : Nat → Nat} {Q Q' Q0 fl ex : List Nat} {s : cSt} {pg : Nat → List Nat} {A : alD} {cl cp U pk sz : Nat}
theorem alQ_le {hp : Nat → obD} (h : preQ Q Q') : (alQ hp wd Q Q.length).2 ≤ (alQ hp wd Q' Q'.length).2 := by
  have h1 := alQ_pre (hp := hp) (wd := wd) h Q.length (Nat.le_refl _)
  have h2 := alQ_mono (hp := hp) (wd := wd) (Q := Q') (Q'.length - Q.length) Q.length
  have h3 := h.len
  rw [show Q.length + (Q'.length - Q.length) = Q'.length by omega, h1] at h2
  exact h2
theorem GCI.cong_t {k' t' : Nat} (h : GCI D rg cd X n pl np Q k t s pg fl ex nr wd pgs σ) (hj : ∀ (j o : Nat), Q[j]? = some o → ∀ i v, (X.hp o).co[i]? = some v → ((j < k ∨ (j = k ∧ i < t)) ↔ (j < k' ∨ (j = k' ∧ i < t')))) : GCI D rg cd X n pl np Q k' t' s pg fl ex nr wd pgs σ := by
  obtain ⟨g1, g2, g3, g4, g5, g6, g7, g8⟩ := h
  refine ⟨g1, g2, g3, g4, g5, fun j o ho => ?_, g7, g8⟩
  obtain ⟨x1, x2, x3, x4⟩ := g6 j o ho
  refine ⟨x1, x2, x3.cong (fun _ _ => ⟨rfl, rfl⟩) (fun i v hv => ?_), fun i v hv hd => x4 i v hv ((hj j o ho i v hv).mpr hd)⟩
  by_cases c : j < k ∨ (j = k ∧ i < t)
  · rw [if_pos c, if_pos ((hj j o ho i v hv).mp c)]
  · rw [if_neg c, if_neg (fun q => c ((hj j o ho i v hv).mpr q))]
theorem GFr.fail (h : GFr ex σ0 σ) (hp : rd σ 103 10 = i32 (pk : Int)) : GFa pk σ0 σ := ⟨h.1.sub rfl, h.2.1, hp⟩
theorem GFr.csz (h : GFr ex σ0 σ) (hC : CSz D rg cd σ0) : CSz D rg cd σ := fun j hj => by rw [h.1.1 39 rfl, h.1.1 84 rfl]; exact hC j hj
/-- what is in it -/
theorem words_loop (hH : GCH D rg cd X n nr wd) (hC : CSz D rg cd σ0) (hex : ex.length = U) (hn : n ≤ 4000) (hQ0 : Q0.length ≤ n) (hs1 : ∀ k o, o ∈ bfQ X.hp Q0 k → RCO X n o) (hpk : pk ≤ pgs) (hk : (bfQ X.hp Q0 k)[k]? = some o) (d : Nat) :
    ∀ (j t : Nat) (σ : tvS) (np : Nat → Nat) (pg : Nat → List Nat) (fl : List Nat) (v4 : Value), t + j = (X.hp o).co.length → GCI D rg cd X n pl np (cmQ (bfQ X.hp Q0 k) (X.hp o).co t) k t (gcS (alQ X.hp wd (cmQ (bfQ X.hp Q0 k) (X.hp o).co t) (cmQ (bfQ X.hp Q0 k) (X.hp o).co t).length) cl cp U pk) pg fl ex nr wd pgs σ → GFr ex σ0 σ →
    (∃ (σ' : tvS) (np' : Nat → Nat) (pg' : Nat → List Nat) (fl' : List Nat) (v4' : Value), U + (alQ X.hp wd (cmQ (bfQ X.hp Q0 k) (X.hp o).co (X.hp o).co.length) (cmQ (bfQ X.hp Q0 k) (X.hp o).co (X.hp o).co.length).length).2 ≤ pgs ∧ rn L xs (d + 5) 239 13 [.ref 103, .int (i32 (np o : Int)), .int (i32 (szO (X.hp o) : Int)), .int (i32 ((1 + t : Nat) : Int)), v4] [] σ = rn L xs (d + 5) 239 13 [.ref 103, .int (i32 (np o : Int)), .int (i32 (szO (X.hp o) : Int)), .int (i32 ((1 + (X.hp o).co.length : Nat) : Int)), v4'] [] σ' ∧ (∀ o', o' ∈ cmQ (bfQ X.hp Q0 k) (X.hp o).co t → np' o' = np o') ∧ GCI D rg cd X n pl np' (cmQ (bfQ X.hp Q0 k) (X.hp o).co (X.hp o).co.length) k (X.hp o).co.length (gcS (alQ X.hp wd (cmQ (bfQ X.hp Q0 k) (X.hp o).co (X.hp o).co.length) (cmQ (bfQ X.hp Q0 k) (X.hp o).co (X.hp o).co.length).length) cl cp U pk) pg' fl' ex nr wd pgs σ' ∧ GFr ex σ0 σ') ∨
    (pgs < U + (alQ X.hp wd (cmQ (bfQ X.hp Q0 k) (X.hp o).co (X.hp o).co.length) (cmQ (bfQ X.hp Q0 k) (X.hp o).co (X.hp o).co.length).length).2 ∧ ∃ σ', rn L xs (d + 5) 239 13 [.ref 103, .int (i32 (np o : Int)), .int (i32 (szO (X.hp o) : Int)), .int (i32 ((1 + t : Nat) : Int)), v4] [] σ = some (.inl (some (.int 0)), σ') ∧ GFa pgs σ0 σ') := by
  have hsz1 : ∀ k o, o ∈ bfQ X.hp Q0 k → (X.hp o).co.length + 1 ≤ szO (X.hp o) := fun k o ho => by
    have := (hH.2.2 o (hs1 k o ho)).1.sz
    omega
  have hRo := hs1 k o (List.mem_of_getElem? hk)
  obtain ⟨hWo, hgi, hszo, _⟩ := hH.2.2 o hRo
  have hsz := hWo.sz
  have hkl := (List.getElem?_eq_some_iff.mp hk).1
  intro j
  induction j with
  | zero =>
    intro t σ np pg fl v4 ht h hF
    have e : t = (X.hp o).co.length := by omega
    subst e
    obtain ⟨_, m2, _⟩ := h.many rfl hH hex hn (.inr (scan_count hsz1 hQ0 hk (Nat.le_refl _)))
    exact .inl ⟨σ, np, pg, fl, v4, m2, rfl, fun _ _ => rfl, h, hF⟩
  | succ j ih =>
    intro t σ np pg fl v4 ht h hF
    have htl : t < (X.hp o).co.length := by omega
    obtain ⟨v, hv⟩ : ∃ v, (X.hp o).co[t]? = some v := ⟨_, List.getElem?_eq_getElem htl⟩
    obtain ⟨Q, hQ⟩ : ∃ Q, Q = cmQ (bfQ X.hp Q0 k) (X.hp o).co t := ⟨_, rfl⟩
    have hc := scan_count hsz1 hQ0 hk (t := t) (by omega)
    rw [← hQ] at h hc
    obtain ⟨m1, m2, m3⟩ := h.many rfl hH hex hn (.inr hc)
    have hs : ∀ r, r < nr → ((gcS (alQ X.hp wd Q Q.length) cl cp U pk).R r).2.2 ≤ wd := fun r _ => m3 r
    have hpre : preQ (bfQ X.hp Q0 k) Q := by rw [hQ]; exact cmQ_pre t
    have hkQ : Q[k]? = some o := hpre.at hk
    have hoQ : o ∈ Q := List.mem_of_getElem? hkQ
    have hnp := h.np_lt hs hH hoQ
    have hnp0 := WFo.pos (x := X.hp o)
    obtain ⟨x1, x2, x3, x4⟩ := h.2.2.2.2.2.1 k o hkQ
    obtain ⟨y1, y2⟩ := x3.2.1 t v hv
    have y1 : rd σ 104 (np o + 1 + t) = (if k < k ∨ (k = k ∧ t < t) then cwd np v else cwd pl v) := y1
    rw [if_neg (by omega)] at y1
    have e1 : i32 (np o : Int) + i32 ((1 + t : Nat) : Int) = i32 ((np o + 1 + t : Nat) : Int) := by rw [i32_add]; congr 1; omega
    have hvk := hWo.2.2.2.2.1 v (List.mem_of_getElem? hv)
    have ecm : cmQ (bfQ X.hp Q0 k) (X.hp o).co (t + 1) = meQ Q v := by rw [cmQ_succ hv, ← hQ]
    by_cases c2 : v.1 = 2
    · have hVv : VOK X.no v := ((hH.1 o (by obtain ⟨_, _, q⟩ := hRo; exact q.lt.1) (by obtain ⟨_, _, q⟩ := hRo; exact q.lt.2) v (List.mem_of_getElem? hv))).mono (by obtain ⟨_, _, q⟩ := hRo; have := q.lt.2; omega)
      have hRv : RCO X n (oid v) := by
        obtain ⟨kk, k1, k2⟩ := hRo
        exact ⟨kk, k1, k2.in (List.mem_of_getElem? hv) (by have := hH.2.1; omega) c2 hVv⟩
      have y1 : rd σ 104 (np o + 1 + t) = i32 (pl (oid v) : Int) := by rw [y1]; unfold cwd; rw [if_pos c2]
      have head : ∀ R, rn L xs (d + 4) 233 0 [.ref 103, .int (i32 (pl (oid v) : Int)), jv, jv, jv, jv] [] σ = R → rn L xs (d + 5) 239 13 [.ref 103, .int (i32 (np o : Int)), .int (i32 (szO (X.hp o) : Int)), .int (i32 ((1 + t : Nat) : Int)), v4] [] σ = bI R (fun a2 s1 => cond (pv_c2 .ne a2 (i32 (-1))) (rn L xs (d + 5) 239 55 [.ref 103, .int (i32 (np o : Int)), .int (i32 (szO (X.hp o) : Int)), .int (i32 ((1 + t : Nat) : Int)), .int a2] [] s1) (some (.inl (some (.int 0)), s1))) X0 := fun R hR => by
        rw [e239_13 (d + 4), c2_ge (by omega) (by omega) (by omega) (by omega), c_f (by omega), e1, c_in (by omega) (by omega) (by omega), i32_ixn (by omega), y2, c2, show i32 ((2 : Nat) : Int) = (2 : Int32) from rfl, c2_refl, e239_33 (d + 4), e1, c_in (by omega) (by omega) (by omega), i32_ixn (by omega), y1, hR]; rfl
      rcases gmeet_c (L := L) (xs := xs) h hH (hF.csz hC) hex hn (.inr hc) (.inl (List.getElem?_eq_some_iff.mp hkQ).1) hpk c2 hRv d with ⟨σ1, np1, pg1, fl1, b1, b2, b3, b4, b5, b6, b7⟩ | ⟨b1, b2, b3⟩
      · have ho1 : np1 o = np o := b3 o hoQ
        have hkQ1 : (meQ Q v)[k]? = some o := meQ_pre.at hkQ
        have hc1 := scan_count hsz1 hQ0 hk (t := t + 1) (by omega)
        rw [ecm] at hc1
        obtain ⟨_, _, m3'⟩ := b5.many rfl hH hex hn (.inr hc1)
        have b8 := b5.set (σ' := wr σ1 104 (np o + 1 + t) (i32 (np1 (oid v) : Int))) (fun r _ => m3' r) hH hkQ1 hv (fun _ => meQ_mem c2) (.inl ⟨c2, by rw [ho1]⟩)
        have hF1 : GFr ex σ0 (wr σ1 104 (np o + 1 + t) (i32 (np1 (oid v) : Int))) := (hF.tr b7).tr ⟨frW_wr rfl, fun _ _ _ _ _ => wr_nek (by decide), fun _ _ => wr_nek (by decide)⟩
        have hgo := ih (t + 1) _ np1 pg1 fl1 (.int (i32 (np1 (oid v) : Int))) (by omega) (by rw [ecm]; exact b8) hF1
        have hd : rn L xs (d + 5) 239 13 [.ref 103, .int (i32 (np o : Int)), .int (i32 (szO (X.hp o) : Int)), .int (i32 ((1 + t : Nat) : Int)), v4] [] σ = rn L xs (d + 5) 239 13 [.ref 103, .int (i32 (np1 o : Int)), .int (i32 (szO (X.hp o) : Int)), .int (i32 ((1 + (t + 1) : Nat) : Int)), .int (i32 (np1 (oid v) : Int))] [] (wr σ1 104 (np o + 1 + t) (i32 (np1 (oid v) : Int))) := by
          rw [head _ b4, bI_ok rfl, c2_ne (by omega) (by omega) (by omega) (by omega), c_t (by omega), e239_55 (d + 4), e1, c_in (by omega) (by omega) (by omega), i32_ixn (by omega), e239_65 (d + 4), i32_up, ho1]
          rfl
        rcases hgo with ⟨σ', np', pg', fl', v4', g1, g2, g3, g4, g5⟩ | ⟨g1, σ', g2, g3⟩
        · rw [ho1] at g2 hd
          refine .inl ⟨σ', np', pg', fl', v4', g1, by rw [hd]; exact g2, fun o' ho' => ?_, g4, g5⟩
          rw [← hQ] at ho'
          rw [g3 o' (by rw [ecm]; exact meQ_pre.mem ho'), b3 o' ho']
        · exact .inr ⟨g1, σ', by rw [hd]; exact g2, g3⟩
      · refine .inr ⟨?_, σ, ?_, hF.fail b3⟩
        · have hp2 : preQ (meQ Q v) (cmQ (bfQ X.hp Q0 k) (X.hp o).co (X.hp o).co.length) := by
            rw [← ecm]
            have := cmQ_mono (Q := bfQ X.hp Q0 k) (co := (X.hp o).co) ((X.hp o).co.length - (t + 1)) (t + 1)
            rw [show t + 1 + ((X.hp o).co.length - (t + 1)) = (X.hp o).co.length by omega] at this
            exact this
          have := alQ_le (hp := X.hp) (wd := wd) hp2
          omega
        · rw [head _ b2, bI_ok rfl, c2_ne (by omega) (by omega) (by omega) (by omega), c_f (by omega)]
    · have em : meQ Q v = Q := by unfold meQ; rw [if_neg (fun q => c2 q.1)]
      have b8 := h.set (σ' := σ) hs hH hkQ hv (fun e => absurd e c2) (.inr ⟨c2, rfl⟩)
      have hgo := ih (t + 1) σ np pg fl v4 (by omega) (by rw [ecm, em]; exact b8) hF
      have hd : rn L xs (d + 5) 239 13 [.ref 103, .int (i32 (np o : Int)), .int (i32 (szO (X.hp o) : Int)), .int (i32 ((1 + t : Nat) : Int)), v4] [] σ = rn L xs (d + 5) 239 13 [.ref 103, .int (i32 (np o : Int)), .int (i32 (szO (X.hp o) : Int)), .int (i32 ((1 + (t + 1) : Nat) : Int)), v4] [] σ := by
        conv => lhs; rw [e239_13 (d + 4), c2_ge (by omega) (by omega) (by omega) (by omega), c_f (by omega), e1, c_in (by omega) (by omega) (by omega), i32_ixn (by omega), y2, show (2 : Int32) = i32 2 from rfl, c2_eq (by omega) (by omega) (by omega) (by omega), c_f (by omega), e239_65 (d + 4), i32_up]
        rfl
      rcases hgo with ⟨σ', np', pg', fl', v4', g1, g2, g3, g4, g5⟩ | ⟨g1, σ', g2, g3⟩
      · refine .inl ⟨σ', np', pg', fl', v4', g1, by rw [hd]; exact g2, fun o' ho' => g3 o' (by rw [ecm, em, hQ]; exact ho'), g4, g5⟩
      · exact .inr ⟨g1, σ', by rw [hd]; exact g2, g3⟩
/-- what it keeps is no object -/
theorem keeps_loop {a : Nat} {x : obD} (hW : WFo D rg cd x) (hsz2 : szO x ≤ 128) (ha : a + szO x ≤ 51200) (hk : ∀ t r s, x.kp[t]? = some (r, s) → rd σ 105 (a + 1 + x.co.length + t) = 0) (d : Nat) : ∀ (j i : Nat) (v4 : Value), i + j = x.kp.length → rn L xs (d + 1) 239 13 [.ref 103, .int (i32 (a : Int)), .int (i32 (szO x : Int)), .int (i32 ((1 + x.co.length + i : Nat) : Int)), v4] [] σ = some (.inl (some (.int 1)), σ) := by
  have hsz := hW.sz
  intro j
  induction j with
  | zero =>
    intro i v4 hi
    rw [e239_13, c2_ge (by omega) (by omega) (by omega) (by omega), c_t (by omega), e239_71]
  | succ j ih =>
    intro i v4 hi
    have hlt : i < x.kp.length := by omega
    obtain ⟨⟨rr, ss⟩, hrs⟩ : ∃ y, x.kp[i]? = some y := ⟨_, List.getElem?_eq_getElem hlt⟩
    have y := hk i rr ss hrs
    have e1 : i32 (a : Int) + i32 ((1 + x.co.length + i : Nat) : Int) = i32 ((a + 1 + x.co.length + i : Nat) : Int) := by rw [i32_add]; congr 1; omega
    have := ih (i + 1) v4 (by omega)
    rw [e239_13, c2_ge (by omega) (by omega) (by omega) (by omega), c_f (by omega), e1, c_in (by omega) (by omega) (by omega), i32_ixn (by omega), y, show pv_c2 .eq (0 : Int32) 2 = false from rfl, cond_false, e239_65, i32_up]
    exact this
/-- one object is seen through -/
theorem scan_c (hH : GCH D rg cd X n nr wd) (hC : CSz D rg cd σ0) (hex : ex.length = U) (hn : n ≤ 4000) (hQ0 : Q0.length ≤ n) (hs1 : ∀ k o, o ∈ bfQ X.hp Q0 k → RCO X n o) (hpk : pk ≤ pgs) (hk : (bfQ X.hp Q0 k)[k]? = some o) (h : GCI D rg cd X n pl np (bfQ X.hp Q0 k) k 0 (gcS (alQ X.hp wd (bfQ X.hp Q0 k) (bfQ X.hp Q0 k).length) cl cp U pk) pg fl ex nr wd pgs σ) (hF : GFr ex σ0 σ) (d : Nat) :
    (∃ (σ' : tvS) (np' : Nat → Nat) (pg' : Nat → List Nat) (fl' : List Nat), U + (alQ X.hp wd (bfQ X.hp Q0 (k + 1)) (bfQ X.hp Q0 (k + 1)).length).2 ≤ pgs ∧ rn L xs (d + 5) 239 0 [.ref 103, .int (i32 (np o : Int)), jv, jv, jv] [] σ = some (.inl (some (.int 1)), σ') ∧ (∀ o, o ∈ bfQ X.hp Q0 k → np' o = np o) ∧ GCI D rg cd X n pl np' (bfQ X.hp Q0 (k + 1)) (k + 1) 0 (gcS (alQ X.hp wd (bfQ X.hp Q0 (k + 1)) (bfQ X.hp Q0 (k + 1)).length) cl cp U pk) pg' fl' ex nr wd pgs σ' ∧ GFr ex σ0 σ') ∨
    (pgs < U + (alQ X.hp wd (bfQ X.hp Q0 (k + 1)) (bfQ X.hp Q0 (k + 1)).length).2 ∧ ∃ σ', rn L xs (d + 5) 239 0 [.ref 103, .int (i32 (np o : Int)), jv, jv, jv] [] σ = some (.inl (some (.int 0)), σ') ∧ GFa pgs σ0 σ') := by
  have hRo := hs1 k o (List.mem_of_getElem? hk)
  obtain ⟨hWo, hgi, hszo, hvl⟩ := hH.2.2 o hRo
  have hsz := hWo.sz
  have f3 : wd ≤ 128 := h.1.2.2.2.2.2.2.2.1
  have hsz1 : ∀ k o, o ∈ bfQ X.hp Q0 k → (X.hp o).co.length + 1 ≤ szO (X.hp o) := fun k o ho => by
    have := (hH.2.2 o (hs1 k o ho)).1.sz
    omega
  have hc := scan_count hsz1 hQ0 hk (t := 0) (Nat.zero_le _)
  obtain ⟨m1, m2, m3⟩ := h.many rfl hH hex hn (.inr hc)
  have hnp := h.np_lt (fun r _ => m3 r) hH (List.mem_of_getElem? hk)
  obtain ⟨x1, x2, x3, x4⟩ := h.2.2.2.2.2.1 k o hk
  have hsize := size_c (L := L) (xs := xs) (σ := σ) (hF.csz hC) hWo hvl (d + 1)
  have hhd : hdO D (X.hp o) < 5000 := by
    unfold hdO
    by_cases c : (X.hp o).kd = 1
    · rw [if_pos c]; omega
    · rw [if_neg c]
      by_cases c2 : (X.hp o).kd = 2
      · rw [if_pos c2]; omega
      · rw [if_neg c2]
        have := (hWo.2.2.1 (by rcases hWo.1 with q | q | q <;> omega)).2.2
        omega
  have head : rn L xs (d + 5) 239 0 [.ref 103, .int (i32 (np o : Int)), jv, jv, jv] [] σ = rn L xs (d + 5) 239 13 [.ref 103, .int (i32 (np o : Int)), .int (i32 (szO (X.hp o) : Int)), .int (i32 ((1 + 0 : Nat) : Int)), dj jv] [] σ := by
    rw [e239_0 (d + 4), c_in (by omega) (by omega) (by omega), i32_ixn (by omega), x3.1.1, bI_ok hsize]; rfl
  rw [head, bfQ_succ hk]
  rcases words_loop (L := L) (xs := xs) hH hC hex hn hQ0 hs1 hpk hk d (X.hp o).co.length 0 σ np pg fl (dj jv) (by omega) h hF with ⟨σ', np', pg', fl', v4', g1, g2, g3, g4, g5⟩ | ⟨g1, σ', g2, g3⟩
  · have hkQ : (cmQ (bfQ X.hp Q0 k) (X.hp o).co (X.hp o).co.length)[k]? = some o := (cmQ_pre _).at hk
    have ho : np' o = np o := g3 o (List.mem_of_getElem? hk)
    refine .inl ⟨σ', np', pg', fl', g1, ?_, g3, ?_, g5⟩
    · rw [g2]
      have x3' := (g4.2.2.2.2.2.1 k o hkQ).2.2.1
      rw [ho] at x3'
      exact keeps_loop (L := L) (xs := xs) hWo (by omega) hnp (fun t r s hs => (x3'.2.2 t r s hs).2) (d + 4) (X.hp o).kp.length 0 v4' (by omega)
    · refine g4.cong_t (fun j o' hj i v hv => ?_)
      have hi := (List.getElem?_eq_some_iff.mp hv).1
      by_cases e : j = k
      · subst e
        have eo : o = o' := by rw [hkQ] at hj; injection hj
        subst eo
        omega
      · omega
  · exact .inr ⟨g1, σ', by rw [g2], g3⟩
/-- all of them -/
theorem queue_loop (hH : GCH D rg cd X n nr wd) (hC : CSz D rg cd σ0) (hex : ex.length = U) (hn : n ≤ 4000) (hQ0 : Q0.length ≤ n) (hs1 : ∀ k o, o ∈ bfQ X.hp Q0 k → RCO X n o) (hpk : pk ≤ pgs) {N : Nat} (hN1 : ∀ k, k < N → k < (bfQ X.hp Q0 k).length) (hN2 : (bfQ X.hp Q0 N).length = N) (d : Nat) :
    ∀ (j k : Nat) (σ : tvS) (np : Nat → Nat) (pg : Nat → List Nat) (fl : List Nat) (v2 : Value), k + j = N → GCI D rg cd X n pl np (bfQ X.hp Q0 k) k 0 (gcS (alQ X.hp wd (bfQ X.hp Q0 k) (bfQ X.hp Q0 k).length) cl cp U pk) pg fl ex nr wd pgs σ → GFr ex σ0 σ →
    (∃ (σ' : tvS) (np' : Nat → Nat) (pg' : Nat → List Nat) (fl' : List Nat) (v1 v2' : Value), U + (alQ X.hp wd (bfQ X.hp Q0 N) N).2 ≤ pgs ∧ rn L xs (d + 6) 231 104 [.ref 103, .int (i32 (k : Int)), v2] [] σ = rn L xs (d + 6) 231 133 [.ref 103, v1, v2'] [] σ' ∧ (∀ o, o ∈ bfQ X.hp Q0 k → np' o = np o) ∧ GCI D rg cd X n pl np' (bfQ X.hp Q0 N) N 0 (gcS (alQ X.hp wd (bfQ X.hp Q0 N) N) cl cp U pk) pg' fl' ex nr wd pgs σ' ∧ GFr ex σ0 σ') ∨
    (pgs < U + (alQ X.hp wd (bfQ X.hp Q0 N) N).2 ∧ ∃ σ', rn L xs (d + 6) 231 104 [.ref 103, .int (i32 (k : Int)), v2] [] σ = some (.inl (some (.int 0)), σ') ∧ GFa pgs σ0 σ') := by
  have hsz1 : ∀ k o, o ∈ bfQ X.hp Q0 k → (X.hp o).co.length + 1 ≤ szO (X.hp o) := fun k o ho => by
    have := (hH.2.2 o (hs1 k o ho)).1.sz
    omega
  intro j
  induction j with
  | zero =>
    intro k σ np pg fl v2 hk h hF
    have e : k = N := by omega
    subst e
    rw [hN2] at h
    have h26 := h.2.1
    rw [hN2] at h26
    obtain ⟨_, _, _, _, ae, f1, f2, _⟩ := id h.1
    have ae : fl.length + (U + (alQ X.hp wd (bfQ X.hp Q0 k) k).2) = pgs := ae
    have hno : k ≤ 30000 := by
      have := h.2.2.1.1.len
      have := hH.2.1
      omega
    refine .inl ⟨σ, np, pg, fl, .int (i32 (k : Int)), v2, by omega, ?_, fun _ _ => rfl, h, hF⟩
    rw [e231_104, h26, c2_ge (by omega) (by omega) (by omega) (by omega), c_t (by omega)]
  | succ j ih =>
    intro k σ np pg fl v2 hk h hF
    have hkl := hN1 k (by omega)
    obtain ⟨o, ho⟩ : ∃ o, (bfQ X.hp Q0 k)[k]? = some o := ⟨_, List.getElem?_eq_getElem hkl⟩
    have hc := scan_count hsz1 hQ0 ho (t := 0) (Nat.zero_le _)
    obtain ⟨m1, m2, m3⟩ := h.many rfl hH hex hn (.inr hc)
    have h116 := (h.2.2.2.2.2.1 k o ho).1
    have h26 := h.2.1
    have head : ∀ R, rn L xs (d + 5) 239 0 [.ref 103, .int (i32 (np o : Int)), jv, jv, jv] [] σ = R → rn L xs (d + 6) 231 104 [.ref 103, .int (i32 (k : Int)), v2] [] σ = bI R (fun a2 s1 => cond (pv_c1 .ne a2) (rn L xs (d + 6) 231 127 [.ref 103, .int (i32 (k : Int)), (dj v2)] [] s1) (some (.inl (some (.int 0)), s1))) X0 := fun R hR => by
      rw [e231_104 (d + 5), h26, c2_ge (by omega) (by omega) (by omega) (by omega), c_f (by omega), c_in (by omega) (by omega) (by omega), i32_ixn (by omega), h116, hR]
    rcases scan_c (L := L) (xs := xs) hH hC hex hn hQ0 hs1 hpk ho h hF d with ⟨σ1, np1, pg1, fl1, g1, g2, g3, g4, g5⟩ | ⟨g1, σ', g2, g3⟩
    · have hd : rn L xs (d + 6) 231 104 [.ref 103, .int (i32 (k : Int)), v2] [] σ = rn L xs (d + 6) 231 104 [.ref 103, .int (i32 ((k + 1 : Nat) : Int)), dj v2] [] σ1 := by
        rw [head _ g2, bI_ok rfl, show pv_c1 .ne (1 : Int32) = true from rfl, cond_true, e231_127, i32_up]
      rcases ih (k + 1) σ1 np1 pg1 fl1 (dj v2) (by omega) g4 g5 with ⟨σ', np', pg', fl', v1, v2', a1, a2, a3, a4, a5⟩ | ⟨a1, σ', a2, a3⟩
      · exact .inl ⟨σ', np', pg', fl', v1, v2', a1, by rw [hd]; exact a2, fun o ho => by rw [a3 o ((bfQ_step k).mem ho), g3 o ho], a4, a5⟩
      · exact .inr ⟨a1, σ', by rw [hd]; exact a2, a3⟩
    · refine .inr ⟨?_, σ', by rw [head _ g2, bI_ok rfl]; rfl, g3⟩
      have hp2 : preQ (bfQ X.hp Q0 (k + 1)) (bfQ X.hp Q0 N) := by
        have := bfQ_mono (hp := X.hp) (Q := Q0) (N - (k + 1)) (k + 1)
        rw [show k + 1 + (N - (k + 1)) = N by omega] at this
        exact this
      have := alQ_le (hp := X.hp) (wd := wd) hp2
      rw [hN2] at this
      omega
end SCANLOOP
