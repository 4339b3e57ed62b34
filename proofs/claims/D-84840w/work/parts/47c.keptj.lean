/-! REGIONS, BOTH: kept numbers are the same -/
section KEPTJ
variable {σ σ' τ τ' : tvS} {D : pgD} {G : sgD} {m f : Nat}
theorem bxL_mem {c : Nat → Nat} {x : Nat} : ∀ (l b : List Nat), x ∈ bxL c l b → x ∈ b ∨ x ∈ l := by
  intro l
  induction l with
  | nil => intro b h; exact .inl h
  | cons y l ih =>
    intro b h
    unfold bxL at h
    by_cases q : 60 < b.length
    · rw [if_pos q] at h; exact .inl h
    · rw [if_neg q] at h
      rcases ih _ h with k | k
      · unfold bxA at k
        by_cases q2 : c y ∈ b.map c
        · rw [if_pos q2] at k; exact .inl k
        · rw [if_neg q2] at k
          rcases List.mem_append.mp k with k | k
          · exact .inl k
          · rw [List.mem_singleton.mp k]; exact .inr List.mem_cons_self
      · exact .inr (List.mem_cons_of_mem _ k)
theorem wrs_none {b : Bool} {it pl : Int32} (h : it ≠ i32 (-1)) (e : wrs b pl it = i32 (-1)) : b = false ∧ pl = i32 (-1) := by
  unfold wrs at e
  cases b with
  | false => exact ⟨rfl, e⟩
  | true =>
    exfalso
    rw [cond_true] at e
    cases k : pv_c2 .eq pl (i32 (-1)) with
    | true => rw [k, cond_true] at e; exact h e
    | false =>
      rw [k, cond_false] at e
      cases k2 : pv_c2 .ge it pl with
      | true =>
        rw [k2, cond_true] at e
        exact of_decide_eq_false k e
      | false => rw [k2, cond_false] at e; exact h e
theorem wfo_none {b : Nat → Bool} {it : Nat → Int32} : ∀ (k p : Nat) (pl : Int32), (∀ q, p ≤ q → q < p + k → it q ≠ i32 (-1)) → wfo b it k p pl = i32 (-1) → (∀ q, p ≤ q → q < p + k → b q = false) ∧ pl = i32 (-1) := by
  intro k
  induction k with
  | zero => intro p pl _ e; exact ⟨fun q h1 h2 => by omega, e⟩
  | succ k ih =>
    intro p pl h e
    obtain ⟨a1, a2⟩ := ih (p + 1) (wrs (b p) pl (it p)) (fun q h1 h2 => h q (by omega) (by omega)) e
    obtain ⟨b1, b2⟩ := wrs_none (h p (Nat.le_refl _) (by omega)) a2
    refine ⟨fun q h1 h2 => ?_, b2⟩
    by_cases c : q = p
    · rw [c]; exact b1
    · exact a1 q (by omega) (by omega)
/-- too much is reached on one side iff on the other -/
theorem gbN_zz {C M : tG} {c r : Nat → Nat} {Z h h' : Nat → Nat → Prop} {x y : Nat} (z : zG C c M r Z) (zh : zH C c h M r h' Z) (hc : ∀ x, c (c x) = c x) (hr : ∀ x, r (r x) = r x) (kc : ∀ x u, h (c x) u → C.1 (c x) ≠ 1) (km : ∀ x u, h' (r x) u → M.1 (r x) ≠ 1) (hz : Z x y) : gbN C c h x = gbN M r h' y := by
  by_cases q : GRT C c h (fun b => b = x)
  · rw [gbN_t q, gbN_t (q.zz z hc hr zh.1 kc (fun b hb => ⟨y, rfl, by rw [hb]; exact hz⟩))]
  · rw [gbN_f q, gbN_f (fun k => q (k.zz z.flip hr hc (fun x y u a b d => zh.2 y x u a b d) km (fun b hb => ⟨x, rfl, by rw [hb]; exact hz⟩)))]
/-- kept numbers -/
theorem mk_eq {C M : tG} {c r : Nat → Nat} {Z : Nat → Nat → Prop} {bl R : List Nat} {ow : Nat → Int} {pe : Nat → Nat} {n0 n : Nat} {pt by' : Nat → Nat} (hF : PGF D m) (hf : f ≤ D.fc) (z : zG C c M r Z) (hr : ∀ x, r (r x) = r x) (hNM : NMz Z bl R) (hRr : ∀ x, x ∈ R → r x = x) (hpn : ∀ q i, D.bP f ≤ q → q < D.bP (f + 1) → i < D.np G f q → Z (pnC D σ q i) (pnM D τ q i)) (hpe : ∀ (i : Nat) (e : Nat × Nat), (puL D G f (D.bP (f + 1) - D.bP f))[i]? = some e → pe (n0 + i) = pnC D σ e.1 e.2)
    (how : ∀ k, k < R.length → -1 ≤ ow k) (hT : ∀ q i k : Nat, D.bP f ≤ q → q < D.bP (f + 1) → i < D.np G f q → R[k]? = some (r (pnM D τ q i)) → ∃ rb, TGT D f rb q (ow k)) (hpt : FNP D f pt by') {j k : Nat} (j1 : D.bF f ≤ j) (j2 : j < D.bF (f + 1)) (hk : k < R.length) : mkC D f by' c pe bl ow (frO D G f n0) j k ↔ mkM D G f r R ow τ (by' j) k := by
  have hPf := hF.2.2 f hf
  have hlt := hPf.1.1
  obtain ⟨p1, p2, p3, p4, p5⟩ := hpt j j1 j2
  obtain ⟨e0, he0, hb1, hb2⟩ := (hPf.2.2.1 (pt j) p1 p2).kid (w := 0) (by
    cases h : (D.kd (pt j)) with
    | nil => rw [h] at p5; cases p5
    | cons _ _ => exact Nat.zero_lt_succ _)
  have ee : e0 = by' j := by rw [p5] at he0; exact (Option.some.inj he0).symm
  rw [ee] at hb1 hb2
  have hst := (hPf.2.2.1 (by' j) hb1 (by omega)).1
  obtain ⟨u1, u2⟩ := frO.puts (Gs := G) (n0 := n0) (n := n) (pe := pe) (pn := pnC D σ) (show D.bP f ≤ D.bP (f + 1) by omega) hpe
  have hU : PUTS D f n (frO D G f n0) pe (D.np G f) (pnC D σ) := ⟨u1, u2⟩
  have hkb : k < bl.length := by rw [hNM.1]; exact hk
  obtain ⟨xb, hxb⟩ : ∃ x, bl[k]? = some x := ⟨_, List.getElem?_eq_getElem hkb⟩
  obtain ⟨yR, hyR⟩ : ∃ x, R[k]? = some x := ⟨_, List.getElem?_eq_getElem hk⟩
  have hz := hNM.2 k xb yR hxb hyR
  have hry := hRr yR (List.mem_of_getElem? hyR)
  have hgd : bl.getD k 0 = xb := by rw [List.getD_eq_getElem?_getD, hxb]; rfl
  have eqv : ∀ q i, D.bP f ≤ q → q < D.bP (f + 1) → i < D.np G f q → (c xb = c (pnC D σ q i) ↔ R[k]? = some (r (pnM D τ q i))) := fun q i q1 q2 hi => by
    rw [hyR, z.1 _ _ _ _ hz (hpn q i q1 q2 hi), hry]
    exact ⟨fun e => by rw [e], fun e => Option.some.inj e⟩
  unfold mkC mkM mkq
  rw [hgd]
  constructor
  · rintro (⟨⟨q, s1, s2, s3⟩, k2⟩ | ⟨i', a1, a2, a3, a4⟩)
    · exact ⟨q, s1, hk, .inr ⟨s2, s3, hk, k2⟩, .inl k2⟩
    · obtain ⟨q, i, q1, q2, hi, ei, ep⟩ := hU.of (D.bP (f + 1) - D.st (by' j)) (D.st (by' j)) i' (by omega) hst.2.2.1 a1 (Nat.lt_of_lt_of_le a2 (frO.mono _ _ (by omega) (by omega)))
      have hqe : q ≤ by' j := by
        apply Classical.byContradiction
        intro hn
        have := frO.mono (D := D) (Gs := G) (f := f) (n0 := n0) (by' j + 1) q (by omega) (by omega)
        omega
      refine ⟨q, ⟨q1, hqe⟩, hk, .inl ⟨i, hi, (eqv q i (by omega) q2 hi).mp (by rw [← ep]; exact a3)⟩, ?_⟩
      rcases a4 with a4 | a4
      · exact .inl a4
      · exact .inr (.inr a4)
  · rintro ⟨q, s1, _, h3, h4⟩
    rcases h3 with ⟨i, hi, h3⟩ | ⟨h3, h5, h6, h7⟩
    · have q1 : D.bP f ≤ q := by have := s1.1; omega
      have q2 : q < D.bP (f + 1) := by have := s1.2; omega
      refine .inr ⟨frO D G f n0 q + i, ?_, ?_, ?_, ?_⟩
      · have := frO.mono (D := D) (Gs := G) (f := f) (n0 := n0) (D.st (by' j)) q hst.2.2.1 s1.1
        omega
      · have h1 := u1 q q1 q2
        have := frO.mono (D := D) (Gs := G) (f := f) (n0 := n0) (q + 1) (by' j + 1) (by omega) (by have := s1.2; omega)
        omega
      · rw [u2 q i q1 q2 hi]; exact (eqv q i q1 q2 hi).mpr h3
      · rcases h4 with h4 | h4 | h4
        · exact .inl h4
        · obtain ⟨rb, hrb⟩ := hT q i k q1 q2 hi h3
          rcases hrb with ⟨g1, _⟩ | ⟨p, g1, g2, g3, g4, _⟩
          · exact .inl g1
          · by_cases c1 : p ≤ by' j
            · have := (spn.nest hPf (by' j) p (by' j) q (Nat.le_refl _) g1 g2 hb1 (by omega) c1 g4 s1).1
              rw [g3] at h4; omega
            · right; rw [g3]; omega
        · exact .inr h4
    · exact .inl ⟨⟨q, s1, h3, h5⟩, h7⟩
/-- captured variables, in order -/
def CPX (D : pgD) (cp : Nat → List (Nat × Nat)) : Prop := ∀ p, p < D.bP (D.fc + 1) → D.K p = 17 → (cp (D.vl p)).map Prod.snd = cgF D p (D.st p) (p - D.st p)
theorem cgF_le {P s : Nat} : ∀ (j k : Nat), (cgF D P s k).length ≤ (cgF D P s (k + j)).length := by
  intro j
  induction j with
  | zero => intro k; exact Nat.le_refl _
  | succ j ih =>
    intro k
    refine Nat.le_trans (ih k) ?_
    rw [show k + (j + 1) = (k + j) + 1 by omega]
    haveI := Classical.propDecidable (D.K (s + (k + j)) = 2 ∧ D.vl (s + (k + j)) ∈ D.sl P)
    rw [cgF_s]
    split
    · unfold cadd
      split
      · exact Nat.le_refl _
      · rw [List.length_append]; omega
    · exact Nat.le_refl _
end KEPTJ
