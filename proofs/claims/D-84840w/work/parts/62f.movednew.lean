/-! COLLECTIONS, COMPONENT: an object is moved for the first time -/
/-- the pool in the midst of a collection -/
def gcS (A : alD) (cl cp U pk : Nat) : cSt := (A.1, cl, cp, U + A.2, max pk (U + A.2))
section MOVED2
variable {L : Nat} {xs : Nat → Int32} {σ σ' : tvS} {D : pgD} {rg : rgD} {cd : cdD} {X : dyD} {n nr wd pgs k t o p r : Nat} {pl np : Nat → Nat} {Q fl ex : List Nat} {s : cSt} {pg : Nat → List Nat} {A : alD} {cl cp U pk sz : Nat}
theorem gcS_fit (h : (A.1 r).2.1 ≠ 0 ∧ (A.1 r).2.2 + sz ≤ wd) : plP (gcS A cl cp U pk) r sz = gcS (pgA wd A r sz) cl cp U pk := by
  unfold pgA
  rw [if_neg (by omega)]; rfl
theorem gcS_take (h : ¬ ((A.1 r).2.1 ≠ 0 ∧ (A.1 r).2.2 + sz ≤ wd)) : plP (tkS (gcS A cl cp U pk) r) r sz = gcS (pgA wd A r sz) cl cp U pk := by
  unfold pgA
  rw [if_pos (by omega)]
  show (uq (uq A.1 r ((A.1 r).1, (A.1 r).2.1 + 1, 0)) r ((uq A.1 r ((A.1 r).1, (A.1 r).2.1 + 1, 0) r).1 + 1, (uq A.1 r ((A.1 r).1, (A.1 r).2.1 + 1, 0) r).2.1, (uq A.1 r ((A.1 r).1, (A.1 r).2.1 + 1, 0) r).2.2 + sz), cl, cp, U + A.2 + 1, max (max pk (U + A.2)) (U + A.2 + 1)) = (uq A.1 r ((A.1 r).1 + 1, (A.1 r).2.1 + 1, sz), cl, cp, U + (A.2 + 1), max pk (U + (A.2 + 1)))
  have e1 : uq (uq A.1 r ((A.1 r).1, (A.1 r).2.1 + 1, 0)) r ((uq A.1 r ((A.1 r).1, (A.1 r).2.1 + 1, 0) r).1 + 1, (uq A.1 r ((A.1 r).1, (A.1 r).2.1 + 1, 0) r).2.1, (uq A.1 r ((A.1 r).1, (A.1 r).2.1 + 1, 0) r).2.2 + sz) = uq A.1 r ((A.1 r).1 + 1, (A.1 r).2.1 + 1, sz) := by
    funext q
    by_cases e : q = r
    · subst e; rw [uq_self, uq_self, uq_self]; show (_, _, 0 + sz) = _; rw [Nat.zero_add]
    · rw [uq_ne e, uq_ne e, uq_ne e]
  rw [e1, show U + A.2 + 1 = U + (A.2 + 1) by omega, show max (max pk (U + A.2)) (U + (A.2 + 1)) = max pk (U + (A.2 + 1)) by omega]
theorem WFo.pos {x : obD} : 1 ≤ szO x := by
  unfold szO
  by_cases h : x.kd = 3
  · rw [if_pos h]; omega
  · rw [if_neg h]; omega
/-- a page more, in the midst of it -/
theorem GCI.take (h : GCI D rg cd X n pl np Q k t s pg (p :: fl) ex nr wd pgs σ) (hs : ∀ r, r < nr → (s.R r).2.2 ≤ wd) (hr : r < nr) (hpk : s.pk ≤ 400) (hH : GCH D rg cd X n nr wd) (v2 : Value) (d : Nat) :
    ∃ σ', rn L xs (d + 2) 236 0 [.ref 103, .int (i32 (r : Int)), v2] [] σ = some (.inl none, σ') ∧ GCI D rg cd X n pl np Q k t (tkS s r) (uq pg r (pg r ++ [p])) fl ex nr wd pgs σ' ∧ frW [103, 106, 107, 110, 111, 112, 114] σ σ' ∧ (∀ q, q ∈ ex → rd σ' 106 q = rd σ 106 q) ∧ ∀ q, q ≠ 8 → q ≠ 9 → q ≠ 10 → rd σ' 103 q = rd σ 103 q := by
  obtain ⟨g1, g2, g3, g4, g5, g6, g7, g8⟩ := h
  obtain ⟨σ', a1, a2, a3, a4, a5, a6⟩ := take_c (L := L) (xs := xs) g1 hr hpk v2 d
  obtain ⟨_, _, _, ⟨d1, d2, d3, d4⟩, _⟩ := g1
  have hpx : ∀ q, q ∈ ex → q ≠ p := fun q hq e => (d3 p List.mem_cons_self).2 (by rw [← e]; exact hq)
  have hc : ∀ (f : Nat → vaL → Int32) (x : obD) (a : Nat), CObw D f x a σ → CObw D f x a σ' := fun f x a hh => hh.cong (fun j _ => ⟨a3.1 104 rfl _, a3.1 105 rfl _⟩) (fun _ _ _ => rfl)
  refine ⟨σ', a1, ⟨a2, by rw [a6 26 (by decide) (by decide) (by decide)]; exact g2, g3, fun o ho => ?_, fun o ho => by rw [a3.1 104 rfl]; exact g5 o ho, fun j o hj => ?_, g7, g8⟩, a3, fun q hq => a4 q (hpx q hq) (fun hm => ((d1 r hr).2 q hm).2.2.1 hq), a6⟩
  · obtain ⟨⟨q, q1, q2, q3, q4⟩, c⟩ := g4 o ho
    exact ⟨⟨q, q1, q2, q3, by rw [a5 q (hpx q q1)]; exact q4⟩, fun hq => hc _ _ _ (c hq)⟩
  · obtain ⟨b1, b2, b3, b4⟩ := g6 j o hj
    refine ⟨by rw [a3.1 116 rfl]; exact b1, ?_, hc _ _ _ b3, b4⟩
    obtain ⟨q, q1, q2, q3⟩ := b2
    have hgi := (hH.2.2 o (g3.2 o (List.mem_of_getElem? hj))).2.1
    by_cases e : (X.hp o).gi = r
    · refine ⟨q, ?_, q2, ?_⟩
      · rw [e, uq_self]; rw [e] at q1; exact List.mem_append_left _ q1
      · rw [e, uq_self]
        have hlast : (pg r ++ [p]).getLast? = some p := by rw [List.getLast?_append]; rfl
        have hqp : p ≠ q := fun e' => by
          rw [e] at q1
          exact ((d1 r hr).2 q q1).2.1 (by rw [← e']; exact List.mem_cons_self)
        rw [hlast, if_neg (fun e' => hqp (by injection e'))]
        have hu := hs _ hgi
        by_cases c : (pg (X.hp o).gi).getLast? = some q
        · rw [if_pos c] at q3; omega
        · rw [if_neg c] at q3; exact q3
    · have e1 : (tkS s r).R (X.hp o).gi = s.R (X.hp o).gi := uq_ne e
      exact ⟨q, by rw [uq_ne e]; exact q1, q2, by rw [uq_ne e, e1]; exact q3⟩
/-- it is put down in its new place -/
theorem moved_at {z : Nat} (h : GCI D rg cd X n pl np Q k t s pg fl ex nr wd pgs σ) (hs : ∀ r, r < nr → (s.R r).2.2 ≤ wd) (hH : GCH D rg cd X n nr wd) (ho : RCO X n o) (hoQ : o ∉ Q) (hk : k < Q.length ∨ (k = Q.length ∧ t = 0)) (hql : Q.length < 17067) (hz : (pg (X.hp o).gi).getLast? = some z) (hu : (s.R (X.hp o).gi).2.2 + szO (X.hp o) ≤ wd) (v4 v5 : Value) (d : Nat) :
    ∃ σ', rn L xs (d + 2) 233 65 [.ref 103, .int (i32 (pl o : Int)), .int (i32 ((X.hp o).gi : Int)), .int (i32 (szO (X.hp o) : Int)), v4, v5] [] σ = some (.inl (some (.int (i32 ((z * wd + (s.R (X.hp o).gi).2.2 : Nat) : Int)))), σ') ∧ z * wd + (s.R (X.hp o).gi).2.2 < 51200 ∧ GCI D rg cd X n pl (uq np o (z * wd + (s.R (X.hp o).gi).2.2)) (Q ++ [o]) k t (plP s (X.hp o).gi (szO (X.hp o))) pg fl ex nr wd pgs σ' ∧ frW [103, 104, 105, 112, 113, 116] σ σ' ∧ ∀ q, q ≠ 26 → rd σ' 103 q = rd σ 103 q := by
  obtain ⟨g1, g2, ⟨g3, g3'⟩, g4, g5, g6, g7, g8⟩ := h
  obtain ⟨hW, hgi, hsz, _⟩ := hH.2.2 o ho
  have hpos := WFo.pos (x := X.hp o)
  have hsz2 := hW.sz
  obtain ⟨gi, egi⟩ : ∃ gi, gi = (X.hp o).gi := ⟨_, rfl⟩
  obtain ⟨to, eto⟩ : ∃ to, to = z * wd + (s.R (X.hp o).gi).2.2 := ⟨_, rfl⟩
  obtain ⟨σ1, a1, a2, a3⟩ := place_c (L := L) (xs := xs) (sz := szO (X.hp o)) g1 hgi hz hu jv (d)
  obtain ⟨_, _, _, ⟨d1, d2, d3, d4⟩, _, f1, f2, f3, f4⟩ := g1
  have hzm := List.mem_of_getLast? hz
  obtain ⟨z1, z2, z3, z4⟩ := (d1 _ hgi).2 z hzm
  have hpl := page_le (wd := wd) z1
  have hpw := pgs_wd f2 f3
  obtain ⟨⟨po, p1, p2, p3, p4⟩, hco⟩ := g4 o ho
  have hpo := page_le (wd := wd) (d4 po p1)
  have hco := hco hoQ
  have hzpo : z ≠ po := fun e => z3 (by rw [e]; exact p1)
  rw [← eto] at a1 ⊢
  have hto : to + szO (X.hp o) ≤ z * wd + wd := by omega
  have hdis := page_ne (wd := wd) hzpo (a := to) (b := pl o) (x := szO (X.hp o)) (y := szO (X.hp o)) (by omega) hto p2 p3
  -- the words
  have hsort : ∀ q, q < szO (X.hp o) → ∃ z : Nat, z ≤ 2 ∧ rd σ1 105 (pl o + q) = i32 (z : Int) := fun q hq => by
    obtain ⟨⟨w1, w2⟩, w3, w4⟩ := hco
    rw [a3.1 105 rfl]
    by_cases c0 : q = 0
    · exact ⟨0, by omega, by rw [c0, Nat.add_zero, w2]; rfl⟩
    · by_cases c1 : q < 1 + (X.hp o).co.length
      · have hlt : q - 1 < (X.hp o).co.length := by omega
        have hv := (w3 (q - 1) _ (List.getElem?_eq_getElem hlt)).2
        rw [show pl o + 1 + (q - 1) = pl o + q by omega] at hv
        exact ⟨_, hW.2.2.2.2.1 _ (List.getElem_mem hlt), hv⟩
      · have hlt : q - 1 - (X.hp o).co.length < (X.hp o).kp.length := by omega
        obtain ⟨⟨rr, ss⟩, hrs⟩ : ∃ y, (X.hp o).kp[q - 1 - (X.hp o).co.length]? = some y := ⟨_, List.getElem?_eq_getElem hlt⟩
        have hv := (w4 _ rr ss hrs).2
        rw [show pl o + 1 + (X.hp o).co.length + (q - 1 - (X.hp o).co.length) = pl o + q by omega] at hv
        exact ⟨0, by omega, hv⟩
  obtain ⟨σ2, v2', b1, b2, b3, b4⟩ := copy_obj (L := L) (xs := xs) (a := pl o) (sz := szO (X.hp o)) (to := to) (by omega) (by omega) (by omega) (by omega) jv (d) (szO (X.hp o)) 0 σ1 (.int (i32 ((X.hp o).gi : Int))) (by omega) hsort
  have q26 : rd σ2 103 26 = i32 (Q.length : Int) := by rw [b4.1 103 rfl, a3.1 103 rfl]; exact g2
  have eneg : i32 (-1) - i32 (to : Int) = i32 (-1 - (to : Int)) := by rw [i32_sub]
  obtain ⟨σ3, h3⟩ : ∃ σ3, σ3 = wr (wr (wr σ2 104 (pl o) (i32 (-1 - (to : Int)))) 116 Q.length (i32 (to : Int))) 103 26 (i32 ((Q.length + 1 : Nat) : Int)) := ⟨_, rfl⟩
  have w3 : frW [103, 104, 116] σ2 σ3 := by rw [h3]; exact ((frW_wr rfl).trans (frW_wr rfl)).trans (frW_wr rfl)
  have m104 : ∀ q, q ≠ pl o → rd σ3 104 q = rd σ2 104 q := fun q hq => by rw [h3, wr_nek (by decide), wr_nek (by decide), wr_nei hq]
  have m105 : ∀ q, rd σ3 105 q = rd σ2 105 q := fun q => w3.1 105 rfl q
  have m116 : ∀ q, q ≠ Q.length → rd σ3 116 q = rd σ 116 q := fun q hq => by rw [h3, wr_nek (by decide), wr_nei hq, wr_nek (by decide), b4.1 116 rfl, a3.1 116 rfl]
  have m103 : ∀ q, q ≠ 26 → rd σ3 103 q = rd σ 103 q := fun q hq => by rw [h3, wr_nei hq, wr_nek (by decide), wr_nek (by decide), b4.1 103 rfl, a3.1 103 rfl]
  -- away from both places all stays
  have away : ∀ a sz', (a + sz' ≤ to ∨ to + szO (X.hp o) ≤ a) → (a + sz' ≤ pl o ∨ pl o + 1 ≤ a) → ∀ j, j < sz' → rd σ3 104 (a + j) = rd σ 104 (a + j) ∧ rd σ3 105 (a + j) = rd σ 105 (a + j) := fun a sz' h1 h2 j hj => by
    rw [m104 _ (by omega), m105]
    obtain ⟨y1, y2⟩ := b3 (a + j) (by omega)
    rw [y1, y2, a3.1 104 rfl, a3.1 105 rfl]; exact ⟨rfl, rfl⟩
  have hgo : ∀ o', RCO X n o' → o' ≠ o → (pl o' + szO (X.hp o') ≤ pl o ∨ pl o + 1 ≤ pl o') ∧ (pl o' + szO (X.hp o') ≤ to ∨ to + szO (X.hp o) ≤ pl o') ∧ pl o' ≠ pl o := fun o' ho' hne => by
    obtain ⟨⟨q, q1, q2, q3, q4⟩, _⟩ := g4 o' ho'
    have hd := g7 o' o ho' ho hne
    have hp' := WFo.pos (x := X.hp o')
    have := page_ne (wd := wd) (fun e => z3 (by rw [e]; exact q1) : z ≠ q) (a := to) (b := pl o') (x := szO (X.hp o)) (y := szO (X.hp o')) (by omega) hto q2 q3
    omega
  have hnew : ∀ (j o' : Nat), Q[j]? = some o' → (np o' + szO (X.hp o') ≤ to ∨ to + szO (X.hp o) ≤ np o') ∧ (np o' + szO (X.hp o') ≤ pl o ∨ pl o + szO (X.hp o) ≤ np o') := fun j o' hj => by
    obtain ⟨_, ⟨q, q1, q2, q3⟩, _⟩ := g6 j o' hj
    have hmem := List.mem_of_getElem? hj
    obtain ⟨_, hgi', _⟩ := hH.2.2 o' (g3' o' hmem)
    obtain ⟨y1, y2, y3, y4⟩ := (d1 _ hgi').2 q q1
    have q3' : np o' + szO (X.hp o') ≤ q * wd + wd := by
      have := hs _ hgi'
      by_cases c : (pg (X.hp o').gi).getLast? = some q
      · rw [if_pos c] at q3; omega
      · rw [if_neg c] at q3; exact q3
    constructor
    · by_cases e : q = z
      · have e2 : (X.hp o').gi = (X.hp o).gi := by
          rw [e] at q1
          exact z4 _ hgi' q1
        rw [e2, e, hz, if_pos rfl] at q3
        left; omega
      · exact page_ne (wd := wd) e q2 q3' (by omega) hto
    · exact page_ne (wd := wd) (fun e => y3 (by rw [e]; exact p1)) q2 q3' p2 p3
  refine ⟨σ3, ?_, by omega, ⟨?_, ?_, ⟨⟨?_, ?_⟩, ?_⟩, fun o' ho' => ?_, fun o' ho' => ?_, fun j o' hj => ?_, g7, ?_⟩, (((a3.sub rfl).trans (b4.sub rfl)).trans (w3.sub rfl)), m103⟩
  · rw [e233_65 (d + 1), bI_ok a1]
    show rn L xs (d + 2) 233 76 _ _ _ = _
    rw [show (0 : Int32) = i32 ((0 : Nat) : Int) from rfl, b1, e233_115, c_in (by omega) (by omega) (by omega), q26, c_in (by omega) (by omega) (by omega), i32_ixn (by omega), i32_ixn (by omega), i32_raw, eneg, i32_up, ← h3]
  · obtain ⟨⟨c1, c2, c3, c4, c5, c6, c7, c8⟩, cb, cc, ce⟩ := a2
    have x103 : ∀ q, q ≠ 26 → rd σ3 103 q = rd σ1 103 q := fun q hq => by rw [m103 q hq, a3.1 103 rfl]
    have wx : frW [103, 104, 105, 116] σ1 σ3 := (b4.sub rfl).trans (w3.sub rfl)
    refine ⟨⟨by rw [x103 4 (by decide)]; exact c1, by rw [x103 5 (by decide)]; exact c2, by rw [x103 8 (by decide)]; exact c3, by rw [x103 9 (by decide)]; exact c4, by rw [x103 10 (by decide)]; exact c5, by rw [x103 19 (by decide)]; exact c6, by rw [x103 22 (by decide)]; exact c7, by rw [x103 23 (by decide)]; exact c8⟩, lkF.congr _ _ cb (fun q _ => wx.1 106 rfl q), fun q hq => ?_, ce⟩
    obtain ⟨⟨k1, k2, k3, k4⟩, k5, k6, k7, k8⟩ := cc q hq
    exact ⟨⟨by rw [wx.1 110 rfl]; exact k1, by rw [wx.1 111 rfl]; exact k2, lkF.congr _ _ k3 (fun y _ => wx.1 106 rfl y), fun y hy => by rw [wx.1 107 rfl]; exact k4 y hy⟩, by rw [wx.1 112 rfl]; exact k5, by rw [wx.1 113 rfl]; exact k6, by rw [wx.1 114 rfl]; exact k7, k8⟩
  · rw [h3, wr_self, List.length_append]; rfl
  · rw [List.nodup_append]
    exact ⟨g3.1, List.nodup_cons.mpr ⟨List.not_mem_nil, List.nodup_nil⟩, fun a ha b hb e => hoQ (by rw [← List.mem_singleton.mp hb, ← e]; exact ha)⟩
  · intro o' ho'
    rcases List.mem_append.mp ho' with q | q
    · exact g3.2 o' q
    · rw [List.mem_singleton.mp q]
      obtain ⟨kk, hk1, hk2⟩ := ho
      exact hk2.lt
  · intro o' ho'
    rcases List.mem_append.mp ho' with q | q
    · exact g3' o' q
    · rw [List.mem_singleton.mp q]; exact ho
  · obtain ⟨⟨q, q1, q2, q3, q4⟩, c⟩ := g4 o' ho'
    refine ⟨⟨q, q1, q2, q3, by rw [w3.1 107 rfl, b4.1 107 rfl, a3.1 107 rfl]; exact q4⟩, fun hn => ?_⟩
    have hne : o' ≠ o := fun e => hn (by rw [e]; exact List.mem_append_right _ List.mem_cons_self)
    have hnQ : o' ∉ Q := fun hm => hn (List.mem_append_left _ hm)
    obtain ⟨y1, y2, _⟩ := hgo o' ho' hne
    have hW' := (hH.2.2 o' ho').1.sz
    exact (c hnQ).cong (fun j hj => away _ _ y2 y1 j (by omega)) (fun _ _ _ => rfl)
  · rcases List.mem_append.mp ho' with q | q
    · have hne : o' ≠ o := fun e => hoQ (by rw [← e]; exact q)
      rw [uq_ne hne]
      obtain ⟨y1, y2, y3⟩ := hgo o' (g3' o' q) hne
      have hp' := WFo.pos (x := X.hp o')
      have := (away (pl o') 1 (by omega) (by omega) 0 (by omega)).1
      rw [Nat.add_zero] at this
      rw [this]; exact g5 o' q
    · rw [List.mem_singleton.mp q, uq_self, h3, wr_nek (by decide), wr_nek (by decide), wr_self]
  · by_cases ej : j < Q.length
    · rw [List.getElem?_append_left ej] at hj
      have hmem := List.mem_of_getElem? hj
      have hne : o' ≠ o := fun e => hoQ (by rw [← e]; exact hmem)
      obtain ⟨y1, y2, y3, y4⟩ := g6 j o' hj
      obtain ⟨n1, n2⟩ := hnew j o' hj
      have hW' := (hH.2.2 o' (g3' o' hmem)).1.sz
      rw [uq_ne hne]
      refine ⟨by rw [m116 j (by omega)]; exact y1, ?_, ?_, fun t' v hv hd h2 => List.mem_append_left _ (y4 t' v hv hd h2)⟩
      · obtain ⟨q, q1, q2, q3⟩ := y2
        refine ⟨q, q1, q2, ?_⟩
        by_cases e : (X.hp o').gi = (X.hp o).gi
        · have e1 : (plP s (X.hp o).gi (szO (X.hp o))).R (X.hp o').gi = ((s.R (X.hp o).gi).1 + 1, (s.R (X.hp o).gi).2.1, (s.R (X.hp o).gi).2.2 + szO (X.hp o)) := by rw [e]; exact uq_self
          rw [e1]
          by_cases c : (pg (X.hp o').gi).getLast? = some q
          · rw [if_pos c] at q3 ⊢
            rw [e] at q3
            show _ ≤ q * wd + ((s.R (X.hp o).gi).2.2 + szO (X.hp o))
            omega
          · rw [if_neg c] at q3 ⊢; exact q3
        · have e1 : (plP s (X.hp o).gi (szO (X.hp o))).R (X.hp o').gi = s.R (X.hp o').gi := uq_ne e
          rw [e1]; exact q3
      · refine y3.cong (fun i hi => away _ (szO (X.hp o')) n1 (by omega) i (by omega)) (fun t' v hv => ?_)
        by_cases c : j < k ∨ (j = k ∧ t' < t)
        · rw [if_pos c, if_pos c]
          unfold cwd
          by_cases c2 : v.1 = 2
          · rw [if_pos c2, if_pos c2, uq_ne (fun e => hoQ (by rw [← e]; exact y4 t' v hv c c2))]
          · rw [if_neg c2, if_neg c2]
        · rw [if_neg c, if_neg c]
    · have ej2 : j = Q.length := by
        have := (List.getElem?_eq_some_iff.mp hj).1
        rw [List.length_append] at this
        have e1 : [o].length = 1 := rfl
        omega
      subst ej2
      rw [List.getElem?_append_right (Nat.le_refl _), Nat.sub_self] at hj
      have eo : o = o' := by injection hj
      subst eo
      rw [uq_self]
      refine ⟨by rw [h3, wr_nek (by decide), wr_self], ⟨z, hzm, by omega, ?_⟩, ?_, fun t' v hv hd h2 => by omega⟩
      · have e1 : (plP s (X.hp o).gi (szO (X.hp o))).R (X.hp o).gi = ((s.R (X.hp o).gi).1 + 1, (s.R (X.hp o).gi).2.1, (s.R (X.hp o).gi).2.2 + szO (X.hp o)) := uq_self
        rw [hz, if_pos rfl, e1]
        show to + _ ≤ z * wd + ((s.R (X.hp o).gi).2.2 + szO (X.hp o))
        omega
      · refine hco.cong (fun i hi => ?_) (fun t' v hv => if_neg (by omega))
        rw [m104 _ (by omega), m105]
        obtain ⟨y1, y2⟩ := b2 i (Nat.zero_le _) (by omega)
        rw [y1, y2, a3.1 104 rfl, a3.1 105 rfl]; exact ⟨rfl, rfl⟩
  · intro o1 o2 h1 h2 hne
    have hpair : ∀ o', o' ∈ Q → np o' + szO (X.hp o') ≤ to ∨ to + szO (X.hp o) ≤ np o' := fun o' ho' => by
      obtain ⟨j, hj⟩ := List.mem_iff_getElem?.mp ho'
      exact (hnew j o' hj).1
    rcases List.mem_append.mp h1 with q1 | q1
    · have e1 : o1 ≠ o := fun e => hoQ (by rw [← e]; exact q1)
      rcases List.mem_append.mp h2 with q2 | q2
      · have e2 : o2 ≠ o := fun e => hoQ (by rw [← e]; exact q2)
        rw [uq_ne e1, uq_ne e2]; exact g8 o1 o2 q1 q2 hne
      · have e2 := List.mem_singleton.mp q2
        subst e2
        rw [uq_ne e1, uq_self]; exact hpair o1 q1
    · have e1 := List.mem_singleton.mp q1
      subst e1
      rcases List.mem_append.mp h2 with q2 | q2
      · have e2 : o2 ≠ o1 := fun e => hoQ (by rw [← e]; exact q2)
        rw [uq_ne e2, uq_self]
        rcases hpair o2 q2 with q | q
        · exact .inr q
        · exact .inl q
      · exact absurd (List.mem_singleton.mp q2).symm hne
def GCF : List Nat := [103, 104, 105, 106, 107, 110, 111, 112, 113, 114, 116]
/-- it is moved now, or there is no room -/
theorem moved_new (h : GCI D rg cd X n pl np Q k t (gcS A cl cp U pk) pg fl ex nr wd pgs σ) (hA : ∀ r, (A.1 r).2.2 ≤ wd) (hH : GCH D rg cd X n nr wd) (hC : CSz D rg cd σ) (ho : RCO X n o) (hoQ : o ∉ Q) (hk : k < Q.length ∨ (k = Q.length ∧ t = 0)) (hql : Q.length < 17067) (hpk : max pk (U + A.2) ≤ 400) (v2 v3 v4 v5 : Value) (d : Nat) :
    (∃ (σ' : tvS) (to : Nat) (pg' : Nat → List Nat) (fl' : List Nat), U + (pgA wd A (X.hp o).gi (szO (X.hp o))).2 ≤ pgs ∧ to < 51200 ∧ rn L xs (d + 4) 233 0 [.ref 103, .int (i32 (pl o : Int)), v2, v3, v4, v5] [] σ = some (.inl (some (.int (i32 (to : Int)))), σ') ∧ GCI D rg cd X n pl (uq np o to) (Q ++ [o]) k t (gcS (pgA wd A (X.hp o).gi (szO (X.hp o))) cl cp U pk) pg' fl' ex nr wd pgs σ' ∧ frW GCF σ σ' ∧ (∀ q, q ∈ ex → rd σ' 106 q = rd σ 106 q) ∧ ∀ q, q ≠ 8 → q ≠ 9 → q ≠ 10 → q ≠ 26 → rd σ' 103 q = rd σ 103 q) ∨
    (U + (pgA wd A (X.hp o).gi (szO (X.hp o))).2 = pgs + 1 ∧ U + A.2 = pgs ∧ rn L xs (d + 4) 233 0 [.ref 103, .int (i32 (pl o : Int)), v2, v3, v4, v5] [] σ = some (.inl (some (.int (i32 (-1)))), σ)) := by
  have h0 := h
  obtain ⟨g1, g2, ⟨g3, g3'⟩, g4, g5, g6, g7, g8⟩ := h
  obtain ⟨hW, hgi, hsz, hvl⟩ := hH.2.2 o ho
  have hpos := WFo.pos (x := X.hp o)
  obtain ⟨⟨po, p1, p2, p3, p4⟩, hco⟩ := g4 o ho
  have hco := hco hoQ
  have hs : ∀ r, r < nr → ((gcS A cl cp U pk).R r).2.2 ≤ wd := fun r _ => hA r
  have hfit := fits_c (L := L) (xs := xs) (r := (X.hp o).gi) (sz := szO (X.hp o)) g1 hgi (by have := hA (X.hp o).gi; have := g1.2.2.2.2.2.2.2.1; show (A.1 _).2.2 ≤ 128; omega) (by have := g1.2.2.2.2.2.2.2.1; omega) (d + 2)
  have hsize := size_c (L := L) (xs := xs) (σ := σ) hC hW hvl d
  obtain ⟨⟨a1, a2, a3, a4, a5, a6, a7, a8⟩, ab, ac, ⟨d1, d2, d3, d4⟩, ae, f1, f2, f3, f4⟩ := g1
  have hpo := page_le (wd := wd) (d4 po p1)
  have hpol := d4 po p1
  have hpw := pgs_wd f2 f3
  have ediv : pl o / wd = po := by
    have h1 : po * wd ≤ pl o := p2
    have h2 : pl o < (po + 1) * wd := by rw [Nat.add_mul, Nat.one_mul]; omega
    exact Nat.div_eq_of_lt_le (by rw [Nat.mul_comm] at h1; rw [Nat.mul_comm]; exact h1) (by rw [Nat.mul_comm] at h2; rw [Nat.mul_comm]; exact h2)
  have hhd : hdO D (X.hp o) < 5000 := by
    unfold hdO
    by_cases c : (X.hp o).kd = 1
    · rw [if_pos c]; omega
    · rw [if_neg c]
      by_cases c2 : (X.hp o).kd = 2
      · rw [if_pos c2]; omega
      · rw [if_neg c2]
        have := (hW.2.2.1 (by rcases hW.1 with q | q | q <;> omega)).2.2
        omega
  have hw0 : (i32 (wd : Int) = 0) = False := by
    refine eq_false (fun e => ?_)
    have := (i32_inj (by omega) (by omega) (by omega) (by omega)).mp (e.trans i32_0)
    omega
  have head : rn L xs (d + 4) 233 0 [.ref 103, .int (i32 (pl o : Int)), v2, v3, v4, v5] [] σ = bI (rn L xs (d + 3) 235 0 [.ref 103, .int (i32 ((X.hp o).gi : Int)), .int (i32 (szO (X.hp o) : Int))] [] σ) (fun a4 s3 => cond (pv_c1 .ne a4) (rn L xs (d + 4) 233 65 [.ref 103, .int (i32 (pl o : Int)), .int (i32 ((X.hp o).gi : Int)), .int (i32 (szO (X.hp o) : Int)), (dj (dj v4)), (dj (dj v5))] [] s3) (cond (pv_c2 .ne (rd s3 103 8) (i32 (-1))) (rn L xs (d + 4) 233 60 [.ref 103, .int (i32 (pl o : Int)), .int (i32 ((X.hp o).gi : Int)), .int (i32 (szO (X.hp o) : Int)), (dj (dj v4)), (dj (dj v5))] [] s3) (some (.inl (some (.int (i32 (-1)))), s3)))) X0 := by
    rw [e233_0, c_in (by omega) (by omega) (by omega), i32_ixn (by omega), hco.1.1, c1_ge (by omega) (by omega), c_t (by omega), e233_18 (d + 3), a2]
    simp only [hw0, decide_false, Bool.not_false, cond_true]
    rw [i32_div (by omega) (by omega), ediv, c_in (by omega) (by omega) (by omega), c_in (by omega) (by omega) (by omega), i32_ixn (by omega), i32_ixn (by omega), hco.1.1, p4, bI_ok hsize]
    rfl
  rw [head, bI_ok hfit]
  by_cases c : ((gcS A cl cp U pk).R (X.hp o).gi).2.1 ≠ 0 ∧ ((gcS A cl cp U pk).R (X.hp o).gi).2.2 + szO (X.hp o) ≤ wd
  · rw [if_pos c, show pv_c1 .ne (1 : Int32) = true from rfl, cond_true]
    obtain ⟨z, hz⟩ : ∃ z, (pg (X.hp o).gi).getLast? = some z := by
      cases e : (pg (X.hp o).gi).getLast? with
      | none =>
        have e2 := List.getLast?_eq_none_iff.mp e
        have := (ac _ hgi).2.2.2.2
        rw [e2] at this
        exact absurd this.symm c.1
      | some z => exact ⟨z, rfl⟩
    obtain ⟨σ', b1, b2, b3, b4, b5⟩ := moved_at (L := L) (xs := xs) h0 hs hH ho hoQ hk hql hz c.2 (dj (dj v4)) (dj (dj v5)) (d + 2)
    have ep : U + (pgA wd A (X.hp o).gi (szO (X.hp o))).2 = U + A.2 := by
      unfold pgA
      rw [if_neg (by have c : (A.1 (X.hp o).gi).2.1 ≠ 0 ∧ (A.1 (X.hp o).gi).2.2 + szO (X.hp o) ≤ wd := c; omega)]
    have ae : fl.length + (U + A.2) = pgs := ae
    rw [gcS_fit c] at b3
    exact .inl ⟨σ', _, pg, fl, by omega, b2, b1, b3, b4.sub rfl, fun q _ => b4.1 106 rfl q, fun q _ _ _ q4 => b5 q q4⟩
  · rw [if_neg c, show pv_c1 .ne (0 : Int32) = false from rfl, cond_false, a3]
    have ep : (pgA wd A (X.hp o).gi (szO (X.hp o))).2 = A.2 + 1 := by
      unfold pgA
      rw [if_pos (by have c : ¬ ((A.1 (X.hp o).gi).2.1 ≠ 0 ∧ (A.1 (X.hp o).gi).2.2 + szO (X.hp o) ≤ wd) := c; omega)]
    have ae : fl.length + (U + A.2) = pgs := ae
    cases fl with
    | nil =>
      have e0 : ([] : List Nat).length = 0 := rfl
      refine .inr ⟨by omega, by omega, ?_⟩
      show cond (pv_c2 .ne (i32 (-1)) (i32 (-1))) _ _ = _
      rw [c2_ne (by omega) (by omega) (by omega) (by omega), c_f (by omega)]
    | cons p fl =>
      have e0 : (p :: fl).length = fl.length + 1 := rfl
      have hp := (d3 p List.mem_cons_self).1
      obtain ⟨σ1, t1, t2, t3, t4, t5⟩ := GCI.take (L := L) (xs := xs) h0 hs hgi (by show max pk (U + A.2) ≤ 400; exact hpk) hH jv (d + 1)
      obtain ⟨σ', b1, b2, b3, b4, b5⟩ := moved_at (L := L) (xs := xs) (z := p) t2 (fun r hr => by
        by_cases e : r = (X.hp o).gi
        · rw [e, show (tkS (gcS A cl cp U pk) (X.hp o).gi).R (X.hp o).gi = ((A.1 (X.hp o).gi).1, (A.1 (X.hp o).gi).2.1 + 1, 0) from uq_self]; exact Nat.zero_le _
        · rw [show (tkS (gcS A cl cp U pk) (X.hp o).gi).R r = A.1 r from uq_ne e]; exact hA r) hH ho hoQ hk hql (by rw [uq_self, List.getLast?_append]; rfl) (by rw [show (tkS (gcS A cl cp U pk) (X.hp o).gi).R (X.hp o).gi = ((A.1 (X.hp o).gi).1, (A.1 (X.hp o).gi).2.1 + 1, 0) from uq_self]; show 0 + _ ≤ wd; omega) (dj (dj (dj v4))) (dj (dj (dj v5))) (d + 2)
      rw [gcS_take c] at b3
      refine .inl ⟨σ', _, _, fl, by omega, b2, ?_, b3, (t3.sub rfl).trans (b4.sub rfl), fun q hq => by rw [b4.1 106 rfl]; exact t4 q hq, fun q q1 q2 q3 q4 => by rw [b5 q q4]; exact t5 q q1 q2 q3⟩
      show cond (pv_c2 .ne (i32 (p : Int)) (i32 (-1))) _ _ = _
      rw [c2_ne (by omega) (by omega) (by omega) (by omega), c_t (by omega), e233_60 (d + 3), bV_ok t1]
      exact b1
end MOVED2
