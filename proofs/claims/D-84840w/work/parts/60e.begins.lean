/-! RUNS: a part begins, its regions are made -/
section BEGINS
variable {D : pgD} {m : Nat} {rg : rgD} {cd : cdD} {T : tsD} {vd : Nat → Nat} {X X' X0 : dyD} {E E0 : Nat → trE} {ty ty' : Nat → trE} {i n nr nr0 L dd p u : Nat} {av av0 : Nat → Prop}
theorem ownN_mem {f k : Nat} : k ∈ ownN rg f p ↔ 1 ≤ k ∧ k ≤ rg.nK f ∧ rg.ow f (k - 1) = (p : Int) := by
  unfold ownN
  rw [nfil_mem]
  constructor
  · rintro ⟨j, h1, h2, h3⟩
    subst h3
    exact ⟨by omega, by omega, by rw [Nat.add_sub_cancel]; exact h2⟩
  · rintro ⟨h1, h2, h3⟩
    exact ⟨k - 1, by omega, h3, by omega⟩
theorem nfil_nodup {mk : Nat → Prop} : ∀ k, (nfil mk k).Nodup := by
  intro k
  induction k with
  | zero => exact List.nodup_nil
  | succ k ih =>
    by_cases h : mk k
    · rw [nfil_y h, List.nodup_append]
      refine ⟨ih, List.nodup_cons.mpr ⟨List.not_mem_nil, List.nodup_nil⟩, fun a ha b hb e => ?_⟩
      have hb := List.mem_singleton.mp hb
      obtain ⟨j, h1, _, h3⟩ := (nfil_mem k).mp ha
      omega
    · rw [nfil_n h]; exact ih
/-- one region more, for the call at hand -/
def MKRg (X X' : dyD) (i k nr : Nat) : Prop :=
  X'.sv = X.sv ∧ X'.hp = X.hp ∧ X'.no = X.no ∧ X'.B = X.B + 1 ∧ X'.ser = uq X.ser nr X.B ∧ X'.fr = X.fr ∧ (∀ j e, X'.aR j e = if j = i ∧ e = k then nr else X.aR j e) ∧ X'.aV = X.aV
theorem boxed_rc {g : tgD} {K : Nat} (hg : ∀ c, g.ki c ≤ 4) (hK : 2 ≤ g.ki K) : ∀ x, g.rc x K → 2 ≤ g.ki x ∧ g.ki x ≤ 4 := by
  intro x ⟨n, h⟩
  refine ⟨?_, hg x⟩
  cases n with
  | zero =>
    have h : x = K := h
    rw [h]; exact hK
  | succ n =>
    obtain ⟨y, e, _⟩ := h
    rcases e with ⟨e, _⟩ | ⟨e, _⟩ | ⟨e, _⟩ <;> omega
/-- in the midst: so many of its regions are made -/
def MIDm (D : pgD) (rg : rgD) (cd : cdD) (T : tsD) (vd : Nat → Nat) (X0 X : dyD) (i p : Nat) (E0 E : Nat → trE) (ty : Nat → trE) (nr0 : Nat) (av0 : Nat → Prop) (L dd j : Nat) : Prop :=
  COM rg T X i E (nr0 + j) (fun k => av0 k ∨ ∃ t, t < j ∧ (ownN rg (X0.ff i) p)[t]? = some k) ∧ SCQ D rg cd T vd X i E ty L dd p ∧ E (T.oC p) = E0 (T.oC p) ∧ (X.sv = X0.sv ∧ X.hp = X0.hp ∧ X.no = X0.no ∧ X.B = X0.B + j ∧ X.fr = X0.fr ∧ X.aV = X0.aV) ∧
  (∀ r, r < nr0 → X.ser r = X0.ser r) ∧ (∀ t, t < j → X.ser (nr0 + t) = X0.B + t) ∧ ∀ a b, X.aR a b = X0.aR a b ∨ (a = i ∧ b ∈ ownN rg (X0.ff i) p)
theorem MIDm.start (h : PRT D rg cd T vd X i E ty nr av L dd p u) : MIDm D rg cd T vd X X i p E E ty nr av L dd 0 := by
  obtain ⟨_, ⟨c1, c2, c3⟩, s, _⟩ := h
  exact ⟨⟨c1, c2, fun k hk => by
    rcases hk with hk | ⟨t, ht, _⟩
    · exact c3 k hk
    · omega⟩, s, rfl, ⟨rfl, rfl, rfl, rfl, rfl, rfl⟩, fun _ _ => rfl, fun t ht => by omega, fun _ _ => .inl rfl⟩
theorem MIDm.next {j k : Nat} (hS : SPF D m rg cd T vd) (hf : X0.ff i ≤ D.fc) (hav : ∀ k, av0 k → rg.ow (X0.ff i) (k - 1) ≠ (p : Int)) (h : MIDm D rg cd T vd X0 X i p E0 E ty nr0 av0 L dd j) (hk : (ownN rg (X0.ff i) p)[j]? = some k) (hx : MKRg X X' i k (nr0 + j)) : ∃ E', MIDm D rg cd T vd X0 X' i p E0 E' ty nr0 av0 L dd (j + 1) := by
  obtain ⟨⟨c1, c2, c3⟩, s, e, ⟨x1, x2, x3, x4, x5, x6⟩, r1, r2, r3⟩ := h
  obtain ⟨y1, y2, y3, y4, y5, y6, y7, y8⟩ := hx
  have hmem := List.mem_of_getElem? hk
  obtain ⟨k1, k2, k3⟩ := ownN_mem.mp hmem
  obtain ⟨n1, n2, n3, n4⟩ := hS.2.2.2.2.2.1 _ k hf k1 k2
  obtain ⟨n5, n6⟩ := n4 p k3
  have ef : X.ff i = X0.ff i := by unfold dyD.ff; rw [x5]
  have ef' : X'.ff i = X0.ff i := by unfold dyD.ff; rw [y6, x5]
  have eb : X'.bs i = X.bs i := by unfold dyD.bs; rw [y6]
  have hb := boxed_rc hS.2.2.2.1 n1
  have hnd : (ownN rg (X0.ff i) p).Nodup := nfil_nodup _
  have hnk : ∀ k', (av0 k' ∨ ∃ t, t < j ∧ (ownN rg (X0.ff i) p)[t]? = some k') → k' ≠ k := fun k' hk' e' => by
    subst e'
    rcases hk' with g | ⟨t, t1, t2⟩
    · exact hav _ g k3
    · have lt : t < (ownN rg (X0.ff i) p).length := (List.getElem?_eq_some_iff.mp t2).1
      have := (List.getElem?_inj lt hnd).mp (t2.trans hk.symm)
      omega
  refine ⟨upR T.g E (T.kC (X0.ff i) k) X.B, ⟨upR_cons c1 hb, fun c z hz => ?_, fun k' hk' => ?_⟩, fun v hv => ?_, ?_, ⟨by rw [y1, x1], by rw [y2, x2], by rw [y3, x3], by omega, by rw [y6, x5], by rw [y8, x6]⟩, fun r hr => ?_, fun t ht => ?_, fun a b => ?_⟩
  · rcases upR_rgs c1 hb hz with q | q
    · have := c2 c z q; omega
    · omega
  · rw [ef', y7, y5]
    by_cases q : k' = k
    · subst q
      rw [if_pos ⟨rfl, rfl⟩, uq_self, upR_self c1 n1 (hS.2.2.2.1 _)]
      exact ⟨k1, k2, by omega, rfl⟩
    · have hk'' : av0 k' ∨ ∃ t, t < j ∧ (ownN rg (X0.ff i) p)[t]? = some k' := by
        rcases hk' with g | ⟨t, t1, t2⟩
        · exact .inl g
        · by_cases qt : t = j
          · subst qt
            rw [hk] at t2
            injection t2 with t2
            exact absurd t2.symm q
          · exact .inr ⟨t, by omega, t2⟩
      obtain ⟨g1, g2, g3, g4⟩ := c3 k' hk''
      rw [ef] at g2 g4
      obtain ⟨m1, m2, _⟩ := hS.2.2.2.2.2.1 _ k' hf g1 g2
      rw [if_neg (fun h => q h.2), uq_ne (by omega), upR_other c1 m1 (hS.2.2.2.1 _) (fun h => q (n2 k' g1 g2 h))]
      exact ⟨g1, g2, by omega, g4⟩
  · obtain ⟨s1, s2, s3⟩ := s v hv
    have ev : upR T.g E (T.kC (X0.ff i) k) X.B (T.vC v) = E (T.vC v) := upR_no (n6 v hv)
    rw [ev, eb, y8, y1, y2, y3]
    refine ⟨s1, s2, fun a b => ?_⟩
    obtain ⟨g1, g2, o, w, g3, g4, g5, g6, g7, g8⟩ := s3 a b
    exact ⟨g1, g2, o, w, g3, g4, g5, g6, g7, g8.mono (fun _ _ _ => rfl) (Nat.le_refl _) (by omega)⟩
  · rw [upR_no n5]; exact e
  · rw [y5, uq_ne (by omega)]; exact r1 r hr
  · rw [y5]
    by_cases q : t = j
    · subst q; rw [uq_self, x4]
    · rw [uq_ne (by omega)]; exact r2 t (by omega)
  · rw [y7]
    by_cases q : a = i ∧ b = k
    · exact .inr ⟨q.1, by rw [q.2]; exact hmem⟩
    · rw [if_neg q]; exact r3 a b
/-- it is under way -/
theorem T_begin {b : Nat} {K : List (Nat × Nat × Nat)} (hS : SPF D m rg cd T vd) (hH : HOK X0.hp X0.no) (hno : X0.no ≤ 30001) (h : TK D rg cd T vd X0 ((0, p, b) :: K) i E0 n ty nr0 av0 L dd) (hL : L ≤ n) (hV : ∀ k, k < n → LVv X0.hp X0.no X0.ser nr0 (X0.sv k)) (hM : MIDm D rg cd T vd X0 X i p E0 E ty nr0 av0 L dd (ownN rg (X0.ff i) p).length) :
    ∃ av : Nat → Prop, PRT D rg cd T vd X i E ty (nr0 + (ownN rg (X0.ff i) p).length) av n (D.sl p).length p p ∧ n = X.bs i + cd.hg p ∧ (∀ k, k ∈ ownN rg (X0.ff i) p → av k) ∧
      ∀ (n' : Nat) (ty' : Nat → trE), n < n' → (∀ k, k < n → ty' k = ty k) → ty' (n' - 1) = E (T.oC p) → TK D rg cd T vd X ((7, p, n) :: K) i E n' ty' (nr0 + (ownN rg (X0.ff i) p).length) av n (D.sl p).length := by
  rcases h with ⟨_, ⟨⟨p1, p2, p3, p4, p5⟩, pc, ps, pn, pa⟩, h2, h3⟩ | ⟨h0, _⟩ | ⟨h0, _⟩ | ⟨h0, _⟩
  · obtain ⟨⟨c1, c2, c3⟩, s, e, ⟨x1, x2, x3, x4, x5, x6⟩, r1, r2, r3⟩ := hM
    have ef : X.ff i = X0.ff i := by unfold dyD.ff; rw [x5]
    have eb : X.bs i = X0.bs i := by unfold dyD.bs; rw [x5]
    have ej : X.fj i = X0.fj i := by unfold dyD.fj; rw [x5]
    have hst := ((hS.1.2.2 _ p1).2.2.1 p p2 p3).1.2.2.2
    have mem : ∀ k, k ∈ ownN rg (X0.ff i) p ↔ ∃ t, t < (ownN rg (X0.ff i) p).length ∧ (ownN rg (X0.ff i) p)[t]? = some k := fun k => by
      rw [List.mem_iff_getElem?]
      exact ⟨fun ⟨t, ht⟩ => ⟨t, (List.getElem?_eq_some_iff.mp ht).1, ht⟩, fun ⟨t, _, ht⟩ => ⟨t, ht⟩⟩
    have nown : ∀ k, rg.ow (X0.ff i) (k - 1) = (p : Int) → ¬ av0 k := fun k hk ha => pa k p ha hk ⟨hst, by omega⟩
    have hd : DYK X0 X i nr0 L dd av0 := ⟨⟨hH, by rw [x3]; exact hno⟩, fun k _ => by rw [x1], fun o _ _ => by rw [x2], by omega, by omega, r1, fun j _ => by rw [x5], fun a k ha => by
        rcases r3 a k with g | g
        · exact g
        · omega, fun k hk => by
        rcases r3 i k with g | g
        · exact g
        · exact absurd hk (nown k (ownN_mem.mp g.2).2.2), fun j e _ => by rw [x6], fun e _ => by rw [x6]⟩
    refine ⟨fun k => av0 k ∨ ∃ t, t < (ownN rg (X0.ff i) p).length ∧ (ownN rg (X0.ff i) p)[t]? = some k, ⟨⟨by rw [ef]; exact p1, by rw [ef]; exact p2, by rw [ef]; exact p3, by rw [ej]; exact p4, rfl⟩, ⟨c1, c2, c3⟩, by rw [← p5]; exact s.up hL, fun q k q1 q2 hq => ?_, fun k r hk hr => ?_⟩, by rw [eb]; exact h2, fun k hk => .inr ((mem k).mp hk), fun n' ty' g1 g2 g3 => ?_⟩
    · rw [ef] at hq ⊢
      rcases pn q k q1 q2 hq with g | ⟨r, g1, g2, g3⟩
      · exact .inl (.inl g)
      · by_cases q' : r = p
        · subst q'
          obtain ⟨k1, k2, _⟩ := hS.2.2.2.2.2.2.1 _ q k p1 (by have := ((hS.1.2.2 _ p1).2.2.1 r p2 p3).1.2.2.1; omega) (by omega) hq
          exact .inl (.inr ((mem k).mp (ownN_mem.mpr ⟨k1, k2, g1⟩)))
        · exact .inr ⟨r, g1, g2, by omega⟩
    · rw [ef] at hr
      rcases hk with g | g
      · have := pa k r g hr; omega
      · have := (ownN_mem.mp ((mem k).mpr g)).2.2
        rw [this] at hr; omega
    · refine .inr (.inl ⟨rfl, g1, Nat.le_refl _, g3, by rw [ef]; exact p2, by rw [ef]; exact p3, E0, av0, nr0, L, dd, by rw [ef], e.symm, fun z hz r hr1 hr2 => ?_, fun k hk => ?_, fun k hk => .inl hk, fun k hk => nown k (by rw [ef] at hk; exact hk), hL, by omega, ?_⟩)
      · rw [e] at hz
        have := pc.2.1 _ z hz
        have := r2 (r - nr0) (by omega)
        rw [show nr0 + (r - nr0) = r by omega] at this
        omega
      · rw [x1]
        exact (hV k hk).mono (by rw [x3]; exact hno) hH (by omega) (fun o _ _ => by rw [x2]) (Nat.le_refl _) r1
      · refine TK.to K i E0 (n + 1) _ _ nr0 av0 L dd hd (fun k hk => ?_) h3
        by_cases q : k = n
        · subst q; rw [uq_self, uq_self, e]
        · rw [uq_ne q, uq_ne q]; exact g2 k (by omega)
  · exact absurd h0 (by decide)
  · exact absurd h0 (by decide)
  · rcases h0 with ⟨h0, _⟩ | ⟨h0, _⟩ | ⟨h0, _⟩ | ⟨h0, _⟩ | ⟨h0, _⟩ | ⟨h0, _⟩ <;> exact absurd h0 (by decide)
end BEGINS
