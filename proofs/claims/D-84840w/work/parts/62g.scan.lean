/-! COLLECTIONS, COMPONENT: what an object has is seen through -/
section SCANC
variable {L : Nat} {xs : Nat → Int32} {σ σ' σ0 : tvS} {D : pgD} {rg : rgD} {cd : cdD} {X : dyD} {n nr wd pgs k t o p r : Nat} {pl np : Nat → Nat} {Q Q0 fl ex : List Nat} {s : cSt} {pg : Nat → List Nat} {A : alD} {cl cp U pk sz : Nat}
/-- how many there are -/
theorem GCI.many (h : GCI D rg cd X n pl np Q k t (gcS A cl cp U pk) pg fl ex nr wd pgs σ) (hA : A = alQ X.hp wd Q Q.length) (hH : GCH D rg cd X n nr wd) (hex : ex.length = U) (hn : n ≤ 4000) (hc : Q.length ≤ 4000 ∨ 2 * Q.length ≤ n + suL (fun o => szO (X.hp o)) Q) : Q.length < 17067 ∧ U + A.2 ≤ pgs ∧ ∀ r, (A.1 r).2.2 ≤ wd := by
  obtain ⟨g1, g2, ⟨g3, g3'⟩, g4, g5, g6, g7, g8⟩ := h
  obtain ⟨_, _, _, _, ae, f1, f2, f3, f4⟩ := g1
  have ae : fl.length + (U + A.2) = pgs := ae
  obtain ⟨w1, w2⟩ := alQ_words (hp := X.hp) (Q := Q) (wd := wd) (nr := nr) (fun o ho => ⟨(hH.2.2 o (g3' o ho)).2.2.1, (hH.2.2 o (g3' o ho)).2.1⟩) Q.length
  rw [← hA, List.take_length] at w1
  rw [← hA] at w2
  refine ⟨?_, by omega, w2⟩
  have hp := packing (w := fun o => szO (X.hp o)) (pl := pl) (wd := wd) (ex := ex) g3.1 (fun o o' h1 h2 hne => g7 o o' (g3' o h1) (g3' o' h2) hne) (fun o ho => by
    obtain ⟨⟨q, q1, q2, q3, _⟩, _⟩ := g4 o (g3' o ho)
    exact ⟨q, q1, q2, q3⟩)
  rw [hex] at hp
  have hW : suL (fun o => szO (X.hp o)) Q ≤ 25600 := by
    by_cases c : U ≤ 200
    · have : U * wd ≤ 200 * 128 := Nat.mul_le_mul c f3
      omega
    · have : A.2 * wd ≤ 200 * 128 := Nat.mul_le_mul (by omega) f3
      omega
  omega
/-- the count, in the midst of an object -/
theorem scan_count (hs : ∀ k o, o ∈ bfQ X.hp Q0 k → (X.hp o).co.length + 1 ≤ szO (X.hp o)) (hn : Q0.length ≤ n) (ho : (bfQ X.hp Q0 k)[k]? = some o) (ht : t ≤ (X.hp o).co.length) : 2 * (cmQ (bfQ X.hp Q0 k) (X.hp o).co t).length ≤ n + suL (fun o => szO (X.hp o)) (cmQ (bfQ X.hp Q0 k) (X.hp o).co t) := by
  have hk := (List.getElem?_eq_some_iff.mp ho).1
  have h1 := bfQ_len hs k (by omega)
  have h2 := cmQ_len (Q := bfQ X.hp Q0 k) (co := (X.hp o).co) t
  obtain ⟨Q, hQ⟩ : ∃ Q, Q = cmQ (bfQ X.hp Q0 k) (X.hp o).co t := ⟨_, rfl⟩
  have hpre : preQ (bfQ X.hp Q0 k) Q := by rw [hQ]; exact cmQ_pre t
  rw [← hQ] at h2 ⊢
  obtain ⟨tl, htl⟩ := hpre
  have e1 : bfQ X.hp Q0 k = (bfQ X.hp Q0 k).take k ++ (o :: (bfQ X.hp Q0 k).drop (k + 1)) := by
    obtain ⟨_, he⟩ := List.getElem?_eq_some_iff.mp ho
    rw [← he, List.getElem_cons_drop, List.take_append_drop]
  have e2 : Q = (bfQ X.hp Q0 k).take k ++ ([o] ++ ((bfQ X.hp Q0 k).drop (k + 1) ++ tl)) := by
    rw [htl]
    conv => lhs; rw [e1]
    rw [List.append_assoc]; rfl
  have h3 : suL (fun o => szO (X.hp o)) Q = suL (fun o => szO (X.hp o)) ((bfQ X.hp Q0 k).take k) + (szO (X.hp o) + suL (fun o => szO (X.hp o)) ((bfQ X.hp Q0 k).drop (k + 1) ++ tl)) := by
    rw [e2, suL_app, suL_app]
    show _ + (szO (X.hp o) + 0 + _) = _
    omega
  have h4 : ((bfQ X.hp Q0 k).drop (k + 1) ++ tl).length ≤ suL (fun o => szO (X.hp o)) ((bfQ X.hp Q0 k).drop (k + 1) ++ tl) := by
    have : ∀ l : List Nat, l.length ≤ suL (fun o => szO (X.hp o)) l := by
      intro l
      induction l with
      | nil => exact Nat.le_refl _
      | cons a l ih =>
        have := WFo.pos (x := X.hp a)
        show l.length + 1 ≤ szO (X.hp a) + suL _ l
        omega
    exact this _
  have h5 : Q.length = k + (1 + ((bfQ X.hp Q0 k).drop (k + 1) ++ tl).length) := by
    rw [e2, List.length_append, List.length_append, List.length_take]
    show min k _ + (1 + _) = _
    omega
  have h6 := hs k o (List.mem_of_getElem? ho)
  omega
/-- a word is told anew -/
theorem GCI.set {v : vaL} (h : GCI D rg cd X n pl np Q k t s pg fl ex nr wd pgs σ) (hs : ∀ r, r < nr → (s.R r).2.2 ≤ wd) (hH : GCH D rg cd X n nr wd) (ho : Q[k]? = some o) (hv : (X.hp o).co[t]? = some v) (hq : v.1 = 2 → oid v ∈ Q) (hσ : (v.1 = 2 ∧ σ' = wr σ 104 (np o + 1 + t) (i32 (np (oid v) : Int))) ∨ (v.1 ≠ 2 ∧ σ' = σ)) : GCI D rg cd X n pl np Q k (t + 1) s pg fl ex nr wd pgs σ' := by
  obtain ⟨g1, g2, ⟨g3, g3'⟩, g4, g5, g6, g7, g8⟩ := h
  have hmem := List.mem_of_getElem? ho
  obtain ⟨hW, hgi, hsz, _⟩ := hH.2.2 o (g3' o hmem)
  have ht := (List.getElem?_eq_some_iff.mp hv).1
  have hsz2 := hW.sz
  obtain ⟨y1, y2, y3, y4⟩ := g6 k o ho
  obtain ⟨q, q1, q2, q3⟩ := y2.page (hs _ hgi)
  obtain ⟨_, _, _, ⟨d1, d2, d3, d4⟩, _⟩ := id g1
  obtain ⟨z1, z2, z3, z4⟩ := (d1 _ hgi).2 q q1
  have w : frW [104] σ σ' := by
    rcases hσ with ⟨_, e⟩ | ⟨_, e⟩
    · rw [e]; exact frW_wr rfl
    · rw [e]; exact frW.refl
  have m : ∀ a, a ≠ np o + 1 + t → rd σ' 104 a = rd σ 104 a := fun a ha => by
    rcases hσ with ⟨_, e⟩ | ⟨_, e⟩
    · rw [e, wr_nei ha]
    · rw [e]
  have away : ∀ a sz', (a + sz' ≤ np o ∨ np o + szO (X.hp o) ≤ a) → ∀ j, j < sz' → rd σ' 104 (a + j) = rd σ 104 (a + j) ∧ rd σ' 105 (a + j) = rd σ 105 (a + j) := fun a sz' h1 j hj => ⟨m _ (by omega), w.1 105 rfl _⟩
  have hold : ∀ o', RCO X n o' → pl o' + szO (X.hp o') ≤ np o ∨ np o + szO (X.hp o) ≤ pl o' := fun o' ho' => by
    obtain ⟨⟨q', q1', q2', q3', _⟩, _⟩ := g4 o' ho'
    exact page_ne (wd := wd) (fun e => z3 (by rw [← e]; exact q1')) q2' q3' q2 q3
  have hc1 : CPo s pg fl ex nr wd pgs σ' := by
    obtain ⟨⟨c1, c2, c3, c4, c5, c6, c7, c8⟩, cb, cc, ce⟩ := g1
    refine ⟨⟨by rw [w.1 103 rfl]; exact c1, by rw [w.1 103 rfl]; exact c2, by rw [w.1 103 rfl]; exact c3, by rw [w.1 103 rfl]; exact c4, by rw [w.1 103 rfl]; exact c5, by rw [w.1 103 rfl]; exact c6, by rw [w.1 103 rfl]; exact c7, by rw [w.1 103 rfl]; exact c8⟩, lkF.congr _ _ cb (fun q _ => w.1 106 rfl q), fun q hq => ?_, ce⟩
    obtain ⟨⟨k1, k2, k3, k4⟩, k5, k6, k7, k8⟩ := cc q hq
    exact ⟨⟨by rw [w.1 110 rfl]; exact k1, by rw [w.1 111 rfl]; exact k2, lkF.congr _ _ k3 (fun y _ => w.1 106 rfl y), fun y hy => by rw [w.1 107 rfl]; exact k4 y hy⟩, by rw [w.1 112 rfl]; exact k5, by rw [w.1 113 rfl]; exact k6, by rw [w.1 114 rfl]; exact k7, k8⟩
  refine ⟨hc1, by rw [w.1 103 rfl]; exact g2, ⟨g3, g3'⟩, fun o' ho' => ?_, fun o' ho' => ?_, fun j o' hj => ?_, g7, g8⟩
  · obtain ⟨⟨q', q1', q2', q3', q4'⟩, c⟩ := g4 o' ho'
    have hW' := (hH.2.2 o' ho').1.sz
    exact ⟨⟨q', q1', q2', q3', by rw [w.1 107 rfl]; exact q4'⟩, fun hn => (c hn).cong (fun j hj => away _ _ (hold o' ho') j (by omega)) (fun _ _ _ => rfl)⟩
  · have hp' := WFo.pos (x := X.hp o')
    have := hold o' (g3' o' ho')
    rw [m _ (by omega)]; exact g5 o' ho'
  · have hm' := List.mem_of_getElem? hj
    have hW' := (hH.2.2 o' (g3' o' hm')).1.sz
    obtain ⟨x1, x2, x3, x4⟩ := g6 j o' hj
    refine ⟨by rw [w.1 116 rfl]; exact x1, x2, ?_, ?_⟩
    · by_cases e : j = k
      · subst e
        have eo : o = o' := by rw [ho] at hj; injection hj
        subst eo
        obtain ⟨⟨b1, b2⟩, b3, b4⟩ := x3
        refine ⟨⟨by rw [m _ (by omega)]; exact b1, by rw [w.1 105 rfl]; exact b2⟩, fun t' v' hv' => ?_, fun t' r' s' hs' => ⟨by rw [m _ (by omega)]; exact (b4 t' r' s' hs').1, by rw [w.1 105 rfl]; exact (b4 t' r' s' hs').2⟩⟩
        obtain ⟨c1, c2⟩ := b3 t' v' hv'
        refine ⟨?_, by rw [w.1 105 rfl]; exact c2⟩
        by_cases e2 : t' = t
        · subst e2
          have ev : v = v' := by rw [hv] at hv'; injection hv'
          subst ev
          have c1 : rd σ 104 (np o + 1 + t') = (if j < j ∨ (j = j ∧ t' < t') then cwd np v else cwd pl v) := c1
          show rd σ' 104 (np o + 1 + t') = (if j < j ∨ (j = j ∧ t' < t' + 1) then cwd np v else cwd pl v)
          rw [if_pos (by omega)]
          rw [if_neg (by omega)] at c1
          rcases hσ with ⟨e1, e⟩ | ⟨e1, e⟩
          · rw [e, wr_self]; unfold cwd; rw [if_pos e1]
          · rw [e, c1]; unfold cwd; rw [if_neg e1, if_neg e1]
        · rw [m _ (by omega), c1]
          show (if j < j ∨ (j = j ∧ t' < t) then cwd np v' else cwd pl v') = (if j < j ∨ (j = j ∧ t' < t + 1) then cwd np v' else cwd pl v')
          by_cases c : j < j ∨ (j = j ∧ t' < t)
          · rw [if_pos c, if_pos (by omega)]
          · rw [if_neg c, if_neg (by omega)]
      · have hd := g8 o' o hm' hmem (fun e' => e (by
          have h1 := (List.getElem?_eq_some_iff.mp hj)
          have h2 := (List.getElem?_eq_some_iff.mp ho)
          exact (List.getElem?_inj h1.1 g3.1).mp (by rw [hj, ho, e'])))
        refine x3.cong (fun i hi => away _ _ hd i (by omega)) (fun t' v' hv' => ?_)
        by_cases c : j < k
        · rw [if_pos (.inl c), if_pos (.inl c)]
        · rw [if_neg (by omega), if_neg (by omega)]
    · intro t' v' hv' hd h2
      by_cases e : j = k ∧ t' = t
      · obtain ⟨e1, e2⟩ := e
        subst e1; subst e2
        have eo : o = o' := by rw [ho] at hj; injection hj
        subst eo
        have ev : v = v' := by rw [hv] at hv'; injection hv'
        subst ev
        exact hq h2
      · exact x4 t' v' hv' (by omega) h2
/-- no room: what is left -/
def GFa (pk : Nat) (σ0 σ' : tvS) : Prop := frW [101, 102, 103, 104, 105, 106, 107, 110, 111, 112, 113, 114, 115, 116] σ0 σ' ∧ (∀ q, q ≠ 8 → q ≠ 9 → q ≠ 10 → q ≠ 26 → rd σ' 103 q = rd σ0 103 q) ∧ rd σ' 103 10 = i32 (pk : Int)
/-- what stays all along -/
def GFr (ex : List Nat) (σ0 σ : tvS) : Prop := frW [103, 104, 105, 106, 107, 110, 111, 112, 113, 114, 116] σ0 σ ∧ (∀ q, q ≠ 8 → q ≠ 9 → q ≠ 10 → q ≠ 26 → rd σ 103 q = rd σ0 103 q) ∧ ∀ q, q ∈ ex → rd σ 106 q = rd σ0 106 q
theorem GFr.tr {σ1 σ2 : tvS} (h : GFr ex σ0 σ1) (g : GFr ex σ1 σ2) : GFr ex σ0 σ2 := ⟨h.1.trans g.1, fun q q1 q2 q3 q4 => by rw [g.2.1 q q1 q2 q3 q4]; exact h.2.1 q q1 q2 q3 q4, fun q hq => by rw [g.2.2 q hq]; exact h.2.2 q hq⟩
theorem GCI.np_lt (h : GCI D rg cd X n pl np Q k t s pg fl ex nr wd pgs σ) (hs : ∀ r, r < nr → (s.R r).2.2 ≤ wd) (hH : GCH D rg cd X n nr wd) (ho : o ∈ Q) : np o + szO (X.hp o) ≤ 51200 := by
  obtain ⟨g1, g2, ⟨g3, g3'⟩, g4, g5, g6, g7, g8⟩ := h
  obtain ⟨j, j1⟩ := List.mem_iff_getElem?.mp ho
  obtain ⟨_, hP, _⟩ := g6 j o j1
  obtain ⟨_, hgi, _⟩ := hH.2.2 o (g3' o ho)
  obtain ⟨q, q1, q2, q3⟩ := hP.page (hs _ hgi)
  obtain ⟨_, _, _, ⟨d1, d2, d3, d4⟩, _, f1, f2, f3, f4⟩ := g1
  have := page_le (wd := wd) ((d1 _ hgi).2 q q1).1
  have := pgs_wd f2 f3
  omega
theorem alQ_one {hp : Nat → obD} {o : Nat} (Q : List Nat) : alQ hp wd (Q ++ [o]) (Q ++ [o]).length = pgA wd (alQ hp wd Q Q.length) (hp o).gi (szO (hp o)) := by
  rw [List.length_append]
  show alQ hp wd (Q ++ [o]) (Q.length + 1) = _
  rw [alQ_succ (o := o) (by rw [List.getElem?_append_right (Nat.le_refl _), Nat.sub_self]; rfl), alQ_pre ⟨[o], rfl⟩ Q.length (Nat.le_refl _)]
/-- an object is met: it is there, it is moved, or there is no room -/
theorem gmeet_c {v : vaL} (h : GCI D rg cd X n pl np Q k t (gcS (alQ X.hp wd Q Q.length) cl cp U pk) pg fl ex nr wd pgs σ) (hH : GCH D rg cd X n nr wd) (hC : CSz D rg cd σ) (hex : ex.length = U) (hn : n ≤ 4000) (hc : Q.length ≤ 4000 ∨ 2 * Q.length ≤ n + suL (fun o => szO (X.hp o)) Q) (hk : k < Q.length ∨ (k = Q.length ∧ t = 0)) (hpk : pk ≤ pgs) (hv : v.1 = 2) (ho : RCO X n (oid v)) (d : Nat) :
    (∃ (σ' : tvS) (np' : Nat → Nat) (pg' : Nat → List Nat) (fl' : List Nat), U + (alQ X.hp wd (meQ Q v) (meQ Q v).length).2 ≤ pgs ∧ np' (oid v) < 51200 ∧ (∀ o, o ∈ Q → np' o = np o) ∧ rn L xs (d + 4) 233 0 [.ref 103, .int (i32 (pl (oid v) : Int)), jv, jv, jv, jv] [] σ = some (.inl (some (.int (i32 (np' (oid v) : Int)))), σ') ∧ GCI D rg cd X n pl np' (meQ Q v) k t (gcS (alQ X.hp wd (meQ Q v) (meQ Q v).length) cl cp U pk) pg' fl' ex nr wd pgs σ' ∧ frW GCF σ σ' ∧ GFr ex σ σ') ∨
    (pgs < U + (alQ X.hp wd (meQ Q v) (meQ Q v).length).2 ∧ rn L xs (d + 4) 233 0 [.ref 103, .int (i32 (pl (oid v) : Int)), jv, jv, jv, jv] [] σ = some (.inl (some (.int (i32 (-1)))), σ) ∧ rd σ 103 10 = i32 (pgs : Int)) := by
  obtain ⟨m1, m2, m3⟩ := h.many rfl hH hex hn hc
  have hs : ∀ r, r < nr → ((gcS (alQ X.hp wd Q Q.length) cl cp U pk).R r).2.2 ≤ wd := fun r _ => m3 r
  have hpg : pgs ≤ 400 := h.1.2.2.2.2.2.2.1
  by_cases c : oid v ∈ Q
  · have e : meQ Q v = Q := by unfold meQ; rw [if_neg (fun q => q.2 c)]
    rw [e]
    have hp := WFo.pos (x := X.hp (oid v))
    have := h.np_lt hs hH c
    exact .inl ⟨σ, np, pg, fl, m2, by omega, fun _ _ => rfl, moved_old (L := L) (xs := xs) h hs hH c jv jv jv jv (d + 3), h, frW.refl, frW.refl, fun _ _ _ _ _ => rfl, fun _ _ => rfl⟩
  · have e : meQ Q v = Q ++ [oid v] := by unfold meQ; rw [if_pos ⟨hv, c⟩]
    rw [e, alQ_one]
    rcases moved_new (L := L) (xs := xs) h m3 hH hC ho c hk m1 (by omega) jv jv jv jv d with ⟨σ', to, pg', fl', b1, b2, b3, b4, b5, b6, b7⟩ | ⟨b1, b2, b3⟩
    · refine .inl ⟨σ', uq np (oid v) to, pg', fl', b1, by rw [uq_self]; exact b2, fun o ho => uq_ne (fun e => c (by rw [← e]; exact ho)), by rw [uq_self]; exact b3, b4, b5, b5.sub rfl, b7, b6⟩
    · refine .inr ⟨by omega, b3, ?_⟩
      rw [h.1.1.2.2.2.2.1]
      show i32 ((max pk (U + (alQ X.hp wd Q Q.length).2) : Nat) : Int) = _
      rw [b2, Nat.max_eq_right hpk]
end SCANC
