/-! REGIONS, THE COMPONENT: from the start to the owners -/
section REGC
variable {L : Nat} {xs : Nat → Int32} {σ σ' τ : tvS} {D : pgD} {Gs : sgD} {m f : Nat}
theorem nodup_lenP : ∀ (a b : List (Nat × Nat)), a.Nodup → (∀ x, x ∈ a → x ∈ b) → a.length ≤ b.length := by
  intro a
  induction a with
  | nil => intro b _ _; exact Nat.zero_le _
  | cons x r ih =>
    intro b hd hs
    rw [List.nodup_cons] at hd
    have hx := hs x List.mem_cons_self
    have := ih (b.erase x) hd.2 (fun y hy => (List.mem_erase_of_ne (fun e => hd.1 (by rw [← e]; exact hy))).mpr (hs y (List.mem_cons_of_mem _ hy)))
    rw [List.length_erase_of_mem hx] at this
    have hl : 0 < b.length := List.length_pos_of_mem hx
    show r.length + 1 ≤ b.length
    omega
/-- so many pairs at most -/
def prW (W : Nat → List Nat) (a : Nat) : Nat → List (Nat × Nat)
  | 0 => []
  | n + 1 => prW W a n ++ (W (a + n)).map (fun y => (a + n, y))
theorem prW_len {W : Nat → List Nat} {a B : Nat} (h : ∀ j, (W j).length ≤ B) : ∀ n, (prW W a n).length ≤ B * n := by
  intro n
  induction n with
  | zero => exact Nat.zero_le _
  | succ n ih =>
    show (prW W a n ++ (W (a + n)).map (fun y => (a + n, y))).length ≤ _
    have := h (a + n)
    rw [List.length_append, List.length_map, Nat.mul_succ]
    omega
theorem prW_mem {W : Nat → List Nat} {a : Nat} {e : Nat × Nat} : ∀ n, a ≤ e.1 → e.1 < a + n → e.2 ∈ W e.1 → e ∈ prW W a n := by
  intro n
  induction n with
  | zero => intro h1 h2; omega
  | succ n ih =>
    intro h1 h2 h3
    show e ∈ prW W a n ++ (W (a + n)).map (fun y => (a + n, y))
    by_cases c : e.1 = a + n
    · exact List.mem_append.mpr (.inr (List.mem_map.mpr ⟨e.2, by rw [← c]; exact h3, by rw [← c]⟩))
    · exact List.mem_append.mpr (.inl (ih h1 (by omega) h3))
/-- what an arrow may come to hold: numbered ones, captured ones -/
def hdW (f : Nat) (D : pgD) (W1 : List Nat) (W2 : Nat → List Nat) (j x : Nat) : Prop := D.bF f ≤ j ∧ j < D.bF (f + 1) ∧ (x ∈ W1 ∨ x ∈ W2 j)
theorem hdW.len {W1 : List Nat} {W2 : Nat → List Nat} (h1 : W1.length ≤ 60) (h2 : ∀ j, D.bF f ≤ j → j < D.bF (f + 1) → (W2 j).length ≤ 40) : ∀ l : List (Nat × Nat), l.Nodup → (∀ e, e ∈ l → hdW f D W1 W2 e.1 e.2) → l.length ≤ 100 * (D.bF (f + 1) - D.bF f) := fun l hd hl => by
  have hW : ∀ j, (if D.bF f ≤ j ∧ j < D.bF (f + 1) then W1 ++ W2 j else []).length ≤ 100 := fun j => by
    by_cases c : D.bF f ≤ j ∧ j < D.bF (f + 1)
    · rw [if_pos c, List.length_append]
      have := h2 j c.1 c.2
      omega
    · rw [if_neg c]; exact Nat.zero_le _
  refine Nat.le_trans (nodup_lenP l (prW (fun j => if D.bF f ≤ j ∧ j < D.bF (f + 1) then W1 ++ W2 j else []) (D.bF f) (D.bF (f + 1) - D.bF f)) hd (fun e he => ?_)) (prW_len hW _)
  obtain ⟨k1, k2, k3⟩ := hl e he
  refine prW_mem _ k1 (by omega) ?_
  rw [if_pos ⟨k1, k2⟩]
  exact List.mem_append.mpr k3
theorem puL_nodup : ∀ k, (puL D Gs f k).Nodup := by
  intro k
  induction k with
  | zero => exact List.nodup_nil
  | succ k ih =>
    show (puL D Gs f k ++ (List.range (D.np Gs f (D.bP f + k))).map (fun i => (D.bP f + k, i))).Nodup
    rw [List.nodup_append]
    refine ⟨ih, ?_, fun a ha b hb e => ?_⟩
    · rw [List.nodup_iff_pairwise_ne, List.pairwise_map]
      exact List.nodup_range.imp (fun h e => h (congrArg Prod.snd e))
    · have := puL_mem k a ha
      obtain ⟨i, _, h2⟩ := List.mem_map.mp hb
      rw [e, ← h2] at this
      have h3 : D.bP f + k < D.bP f + k := this.2.1
      omega
variable {K1 K2 N H1 S : Nat} {C : tG} {c : Nat → Nat} {h0 : Nat → Nat → Prop}
/-- what a fn captures, in the component -/
def cpC (D : pgD) (pt by' : Nat → Nat) (σ : tvS) (j u : Nat) : Prop := ∃ q, spn D (by' j) q ∧ D.K q = 2 ∧ D.vl q ∈ D.sl (pt j) ∧ u = vT σ (D.vl q)
def LFc (D : pgD) (Gs : sgD) (f : Nat) (C : tG) (c : Nat → Nat) (h0 : Nat → Nat → Prop) (pt by' : Nat → Nat) (σ : tvS) : Nat → Nat → Prop := LFP D f C c h0 (Bsh D f σ) (D.np Gs f) (pnC D σ) (fun j => oT σ (pt j)) by' (sfM D f by') (cpC D pt by' σ)
theorem LFP.sf {G : tG} {r : Nat → Nat} {h0 : Nat → Nat → Prop} {Bs : Nat → Nat → Prop} {np : Nat → Nat} {pn : Nat → Nat → Nat} {ar by' : Nat → Nat} {sf sf' : Nat → Prop} {cap : Nat → Nat → Prop} (h : ∀ j, D.bF f ≤ j → j < D.bF (f + 1) → (sf j ↔ sf' j)) {t v : Nat} (k : LFP D f G r h0 Bs np pn ar by' sf cap t v) : LFP D f G r h0 Bs np pn ar by' sf' cap t v := fun Q hQ => k Q ⟨hQ.1, hQ.2.1, hQ.2.2.1, fun j q i j1 j2 s => hQ.2.2.2 j q i j1 j2 ((h j j1 j2).mp s)⟩
def FRC : List Nat := [50, 52, 55, 56, 57, 59, 60, 61, 74, 75, 76, 77, 78, 79, 80, 81, 82]
theorem reg_c {n0 fst l : Nat} {pe0 pt by' : Nat → Nat} {cp : Nat → List (Nat × Nat)} (hF : PGF D m) (hf : f ≤ D.fc) (hR : PGR D σ τ) (hK2 : 6 ≤ K2) (hty : TYc D f N σ) (hcl : CLc D Gs f N σ) (hT : CT K1 K2 N C c h0 H1 S σ) (hQP : QP n0 pe0 σ) (hpe0 : ∀ i, i < n0 → pe0 i < N) (hB : BXS fst σ) (hfst : fst ≤ 1300) (hn : n0 + (puL D Gs f (D.bP (f + 1) - D.bP f)).length < 32768) (h43 : rd σ 43 f = i32 (l : Int)) (hl : l < 3001) (hG : RGC D m cp σ) (hpt : FNP D f pt by')
    (har : ∀ j, D.bF f ≤ j → j < D.bF (f + 1) → C.1 (c (oT σ (pt j))) = 4) (hM : H1 + 100 * (D.bF (f + 1) - D.bF f) < 212992) (hS : S + 2 * (D.bP (f + 1) - D.bP f) * (100 * (D.bF (f + 1) - D.bF f) + 1) < 2147483648) (d : Nat) (v2 v3 v4 v5 : Value) :
    ∃ (bl : List Nat), bl = bxL c ((puL D Gs f (D.bP (f + 1) - D.bP f)).map (fun e => pnC D σ e.1 e.2)) [] ∧
    ((60 < bl.length ∧ ∃ s : tvS, rn L xs (d + 5) 163 0 [.ref 74, .int (i32 (f : Int)), v2, v3, v4, v5] [] σ = some (.inr (1016, (rm s).1), cFlt s 6 (rd σ 13 l)) ∧ RLQ K1 K2 s ∧ frNu σ s) ∨
     (bl.length ≤ 60 ∧ ∃ (σ' : tvS) (pe : Nat → Nat) (h : Nat → Nat → Prop) (H' S' : Nat) (ow : Nat → Int) (w3 w4 w5 : Value), rn L xs (d + 5) 163 0 [.ref 74, .int (i32 (f : Int)), v2, v3, v4, v5] [] σ = rn L xs (d + 5) 163 205 [.ref 74, .int (i32 (f : Int)), .int (i32 (n0 : Int)), w3, w4, w5] [] σ' ∧ CT K1 K2 N C c h H' S' σ' ∧ H1 ≤ H' ∧ H' ≤ H1 + 100 * (D.bF (f + 1) - D.bF f) ∧ S ≤ S' ∧ S' ≤ S + 2 * (D.bP (f + 1) - D.bP f) * (100 * (D.bF (f + 1) - D.bF f) + 1) ∧ hGe c h0 h ∧ (∀ t v, c t = t → (LFc D Gs f C c h0 pt by' σ t v ↔ hQ c h t v)) ∧ QP (n0 + (puL D Gs f (D.bP (f + 1) - D.bP f)).length) pe σ' ∧ (∀ i, i < n0 + (puL D Gs f (D.bP (f + 1) - D.bP f)).length → pe i < N) ∧ (∀ i, i < n0 → pe i = pe0 i) ∧ (∀ (i : Nat) (e : Nat × Nat), (puL D Gs f (D.bP (f + 1) - D.bP f))[i]? = some e → pe (n0 + i) = pnC D σ e.1 e.2) ∧ BXL f fst bl σ' ∧ (∀ p, D.bP f ≤ p → p ≤ D.bP (f + 1) → rd σ' 77 p = i32 (frO D Gs f n0 p : Int) ∧ rd σ' 78 p = i32 (svO D f p : Int)) ∧
       (∀ (i : Nat) (e : Nat × Nat), (puL D Gs f (D.bP (f + 1) - D.bP f))[i]? = some e → rd σ' 76 (n0 + i) = i32 (ow (n0 + i)) ∧ TGT D f (fun p => rBx D f C c h σ p (pnC D σ e.1 e.2)) e.1 (ow (n0 + i))) ∧ frG FRC [59, 60, 61, 75, 76, 81, 82] σ σ' ∧ (∀ i, inL [11, 12, 14, 15] i = false → rd σ' 50 i = rd σ 50 i) ∧ (∀ i, i ≠ 7 → i ≠ 14 → rd σ' 74 i = rd σ 74 i) ∧ (∀ i, i < fst → rd σ' 81 i = rd σ 81 i ∧ rd σ' 82 i = rd σ 82 i) ∧ ∀ g, g ≠ f → rd σ' 79 g = rd σ 79 g ∧ rd σ' 80 g = rd σ 80 g)) := by
  have hb4 := hF.1
  have hbl := (hF.le (D.fc + 1 - (f + 1)) (f + 1) (by omega))
  have hPf := hF.2.2 f hf
  have hlt := hPf.1.1
  have hI2 : ∀ x, c (c x) = c x := by obtain ⟨_, _, _, _, _, _, _, h6, _⟩ := hT; exact h6.1
  have hk4 : ∀ t v, c t = t → h0 t v → C.1 t = 4 := fun t v e k => by
    obtain ⟨hl', hv, _, _, h3, _, _, _, h7, h8⟩ := hT
    rw [h8] at k
    obtain ⟨i, i1, i2⟩ := k
    have hne : hl' t ≠ [] := fun q => by rw [q] at i1; cases i1
    by_cases q : t < N
    · exact h3 t q e hne
    · exact absurd (h7 t (by omega)) hne
  obtain ⟨bl, ebl, hres⟩ := numbers_c (L := L) (xs := xs) (K1 := K1) (K2 := K2) (h := h0) (H := H1) (S := S) hF hf hR hK2 hty hcl hT hQP hpe0 hB hfst hn h43 hl (d + 1) v2 v3 v4 v5
  refine ⟨bl, ebl, ?_⟩
  obtain ⟨PL, ePL⟩ : ∃ PL, PL = puL D Gs f (D.bP (f + 1) - D.bP f) := ⟨_, rfl⟩
  rcases hres with ⟨q, s, a1, a2, a3⟩ | ⟨q, σ1, pe, w3, w4, w5, a1, a2, a3, a4, a5, a6, a7, a8, a9, a10, a11⟩
  · exact .inl ⟨q, s, a1, a2, a3⟩
  refine .inr ⟨q, ?_⟩
  rw [← ePL] at a3 a4 a6 hn ebl ⊢
  -- what stays
  have hR1 : PGR D σ1 τ := hR.to (fun j hj i => a9.rd (inL_off (S := prC) (S' := FNU) (by decide) j hj) i) (fun _ _ _ => rfl)
  have eo : ∀ q, oT σ1 q = oT σ q := fun q => by unfold oT; rw [a9.rd (j := 66) rfl]
  have ev : ∀ q, vT σ1 q = vT σ q := fun q => by unfold vT; rw [a9.rd (j := 67) rfl]
  have er : ∀ q, rT σ1 q = rT σ q := fun q => by unfold rT; rw [a9.rd (j := 68) rfl]
  have eB : Bsh D f σ1 = Bsh D f σ := by
    funext p b
    unfold Bsh
    rw [eo, er]
    simp only [ev]
  have hty1 : TYc D f N σ1 := ⟨fun p h1 h2 => by rw [eo, a9.rd (j := 66) rfl]; exact hty.1 p h1 h2, fun p v h1 h2 h3 => by rw [ev, a9.rd (j := 67) rfl]; exact hty.2.1 p v h1 h2 h3, by rw [er, a9.rd (j := 68) rfl]; exact hty.2.2⟩
  obtain ⟨g1, g2, g3, g4, g5⟩ := hG
  have l40 : ln σ1 40 = ln σ 40 := (a9.1.2.2 40 rfl).1
  have l41 : ln σ1 41 = ln σ 41 := (a9.1.2.2 41 rfl).1
  have body : ∀ j, D.bF f ≤ j → j < D.bF (f + 1) → D.st (by' j) = D.st (pt j) ∧ by' j + 1 = pt j := fun j j1 j2 => by
    obtain ⟨p1, p2, p3, p4, p5⟩ := hpt j j1 j2
    have hp := hPf.2.2.1 (pt j) p1 p2
    have hlen := hp.2.2.1 (by omega)
    rw [p3] at hlen
    have hc := hp.2.1
    cases hk : D.kd (pt j) with
    | nil => rw [hk] at p5; cases p5
    | cons x r =>
      rw [hk] at p5 hc hlen
      have hx : x = by' j := Option.some.inj p5
      cases r with
      | nil => rw [hx] at hc; exact ⟨hc.1, hc.2.2.2⟩
      | cons _ _ => cases hlen
  have capq : ∀ j e, D.bF f ≤ j → j < D.bF (f + 1) → e ∈ cp j → ∃ q, spn D (by' j) q ∧ D.K q = 2 ∧ D.vl q = e.2 ∧ D.vl q ∈ D.sl (pt j) := fun j e j1 j2 he => by
    obtain ⟨p1, p2, p3, p4, p5⟩ := hpt j j1 j2
    have b := body j j1 j2
    have := (g4 (pt j) (by omega) p3 e.2).mp (by rw [p4]; exact List.mem_map.mpr ⟨e, he, rfl⟩)
    obtain ⟨q, q1, q2, q3, q4, q5⟩ := this
    exact ⟨q, ⟨by omega, by omega⟩, q3, q4, by rw [q4]; exact q5⟩
  have qcap : ∀ j q, D.bF f ≤ j → j < D.bF (f + 1) → spn D (by' j) q → D.K q = 2 → D.vl q ∈ D.sl (pt j) → ∃ e, e ∈ cp j ∧ e.2 = D.vl q := fun j q j1 j2 s k2 hv => by
    obtain ⟨p1, p2, p3, p4, p5⟩ := hpt j j1 j2
    have b := body j j1 j2
    have s1 := s.1
    have s2 := s.2
    have := (g4 (pt j) (by omega) p3 (D.vl q)).mpr ⟨q, by omega, by omega, k2, rfl, hv⟩
    rw [p4] at this
    obtain ⟨e, e1, e2⟩ := List.mem_map.mp this
    exact ⟨e, e1, e2⟩
  have hbF : D.bF (f + 1) ≤ D.bF (D.fc + 1) := by
    have hle : ∀ j g, g + j = D.fc + 1 → D.bF g ≤ D.bF (D.fc + 1) := by
      intro j
      induction j with
      | zero => intro g e; rw [show g = D.fc + 1 by omega]; exact Nat.le_refl _
      | succ j ih => intro g e; exact Nat.le_trans (hF.2.2 g (by omega)).1.2.2.1 (ih (g + 1) (by omega))
    exact hle (D.fc - f) (f + 1) (by omega)
  -- what may be held
  have hA := hdW.len (D := D) (f := f) (W1 := bl.map c) (W2 := fun j => (cp j).map (fun e => c (vT σ e.2))) (by rw [List.length_map]; exact q) (fun j j1 j2 => by
    rw [List.length_map]; exact (g3 j (by omega)).2.1)
  have hblm : ∀ e, e ∈ PL → c (pnC D σ e.1 e.2) ∈ bl.map c := fun e he => by
    rw [ebl]
    have key : ∀ (l b : List Nat), (bxL c l b).length ≤ 60 → (∀ x, x ∈ b → c x ∈ (bxL c l b).map c) ∧ ∀ x, x ∈ l → c x ∈ (bxL c l b).map c := by
      intro l
      induction l with
      | nil => intro b _; exact ⟨fun x hx => List.mem_map.mpr ⟨x, hx, rfl⟩, fun x hx => (by cases hx)⟩
      | cons y l ih =>
        intro b hb
        have e1 : bxL c (y :: l) b = if 60 < b.length then b else bxL c l (bxA c b y) := rfl
        by_cases k : 60 < b.length
        · rw [e1, if_pos k] at hb; omega
        · rw [e1, if_neg k] at hb ⊢
          obtain ⟨i1, i2⟩ := ih _ hb
          have mono : ∀ x, x ∈ b → x ∈ bxA c b y := fun x hx => by
            unfold bxA
            by_cases k2 : c y ∈ b.map c
            · rw [if_pos k2]; exact hx
            · rw [if_neg k2]; exact List.mem_append.mpr (.inl hx)
          refine ⟨fun x hx => i1 x (mono x hx), fun x hx => ?_⟩
          rcases List.mem_cons.mp hx with k2 | k2
          · rw [k2]
            by_cases k3 : c y ∈ b.map c
            · obtain ⟨z, z1, z2⟩ := List.mem_map.mp k3
              rw [← z2]; exact i1 z (mono z z1)
            · refine i1 y ?_
              unfold bxA
              rw [if_neg k3]; exact List.mem_append.mpr (.inr (List.mem_singleton.mpr rfl))
          · exact i2 x k2
    exact (key _ _ (by rw [← ebl]; exact q)).2 _ (List.mem_map.mpr ⟨e, he, rfl⟩)
  have lfc := LFP.cls (D := D) (f := f) (G := C) (r := c) (h0 := h0) (Bs := Bsh D f σ) (np := D.np Gs f) (pn := pnC D σ) (ar := fun j => oT σ (pt j)) (by' := by') (sf := sfM D f by') (cap := cpC D pt by' σ) hI2
  obtain ⟨LF, eLF⟩ : ∃ LF, LF = LFc D Gs f C c h0 pt by' σ := ⟨_, rfl⟩
  have eLF' : LF = LFP D f C c h0 (Bsh D f σ) (D.np Gs f) (pnC D σ) (fun j => oT σ (pt j)) by' (sfM D f by') (cpC D pt by' σ) := eLF
  rw [← eLF'] at lfc
  rw [← eLF]
  have har1 : ∀ j, D.bF f ≤ j → j < D.bF (f + 1) → rd σ1 66 (pt j) = i32 (oT σ (pt j) : Int) ∧ oT σ (pt j) < N ∧ C.1 (c (oT σ (pt j))) = 4 := fun j j1 j2 => by
    obtain ⟨p1, p2, p3, p4, p5⟩ := hpt j j1 j2
    obtain ⟨t1, t2⟩ := hty.1 (pt j) p1 p2
    exact ⟨by rw [a9.rd (j := 66) rfl]; exact t1, t2, har j j1 j2⟩
  -- captured ones
  obtain ⟨σ2, NL2, h2, b1, b2, b3, b4, b5⟩ := capt_fns (L := L) (xs := xs) (K1 := K1) (K2 := K2) (S := S) (n := n0 + PL.length) (pe := pe) (cp := cp) (ar := fun j => oT σ (pt j)) (A := hdW f D (bl.map c) (fun j => (cp j).map (fun e => c (vT σ e.2)))) (Q := LF) (σ0 := σ1) hF hf hR1 hpt hA hM hI2 har1 (by rw [l40, l41]; exact g2.1) (by rw [l40]; omega) (fun j j1 j2 => by
    obtain ⟨c1, c2, c3⟩ := g3 j (by omega)
    refine ⟨by rw [a9.rd (j := 37) rfl]; exact capL.congr _ _ c1 (fun q _ => ⟨a9.rd (j := 40) rfl _, a9.rd (j := 41) rfl _⟩), fun e he => ?_⟩
    obtain ⟨q, s, k2, k3, k4⟩ := capq j e j1 j2 he
    obtain ⟨p1, p2, p3, p4, p5⟩ := hpt j j1 j2
    have hv := hty.2.1 (pt j) (D.vl q) p1 p2 k4
    rw [k3] at hv
    refine ⟨by rw [l40]; exact (c3 e he).1, (c3 e he).2, by rw [ev, a9.rd (j := 67) rfl]; exact hv.2.1, by rw [ev]; exact hv.2.2, fun hk => ?_⟩
    rw [ev] at hk ⊢
    exact ⟨⟨j1, j2, .inr (List.mem_map.mpr ⟨e, he, rfl⟩)⟩, lfc.2.1 j _ j1 j2 ⟨q, s, k2, k4, by rw [k3]⟩ hk⟩) d (D.bF (f + 1) - D.bF f) (D.bF f) σ1 [] h0 jv (by have := hPf.1.2.2.1; omega) (Nat.le_refl _) ⟨a2, a3, List.nodup_nil, fun e he => (by cases he), frT.refl⟩ (fun t v e k => lfc.1 t v e k)
  -- rounds
  have hfr : FRm D f (n0 + PL.length) (frO D Gs f n0) σ1 := ⟨fun p h1 h2 => (a8 p h1 h2).1, fun p q h1 h2 _ => frO.mono p q h1 h2, by unfold frO; rw [ePL], by omega⟩
  have efr0 : frO D Gs f n0 (D.bP f) = n0 := by unfold frO; rw [Nat.sub_self]; rfl
  have hPU : PUTS D f (n0 + PL.length) (frO D Gs f n0) pe (D.np Gs f) (pnC D σ) := frO.puts (by omega) (by rw [← ePL]; exact a6)
  have esf : ∀ j, D.bF f ≤ j → j < D.bF (f + 1) → ((svO D f (by' j + 1) ≠ svO D f (D.st (by' j))) ↔ sfM D f by' j) := fun j j1 j2 => by
    obtain ⟨_, _, _, g4, g5, g6, g7⟩ := hR.fn hF hf hpt j1 j2
    exact svO_iff g4 g5
  have eL2 : ∀ t v, LF t v ↔ LFP D f C c h0 (Bsh D f σ1) (D.np Gs f) (pnC D σ) (fun j => oT σ (pt j)) by' (fun j => svO D f (by' j + 1) ≠ svO D f (D.st (by' j))) (cpC D pt by' σ) t v := fun t v => by
    rw [eB, eLF']
    exact ⟨fun k => k.sf (fun j j1 j2 => (esf j j1 j2).symm), fun k => k.sf esf⟩
  obtain ⟨e1, e2, e3, e4, e5⟩ := b2
  have hw : frT FWL [59, 60, 61] [11, 12, 14, 15] σ1 σ2 := e5.sub rfl rfl rfl
  obtain ⟨σ3, S3, NL3, h3, ow, u3, u5, z1, z2, z3, z4, z5, z6, z7, z8, z9⟩ := fix_c (L := L) (xs := xs) (K1 := K1) (K2 := K2) (h0 := h0) (cap := cpC D pt by' σ) (pn := pnC D σ) (np := D.np Gs f) (fr := frO D Gs f n0) (sv := svO D f) (ar := fun j => oT σ (pt j)) (A := hdW f D (bl.map c) (fun j => (cp j).map (fun e => c (vT σ e.2)))) (σ0 := σ1) hF hf hR1 (fun p h1 h2 => by
    rw [a9.rd (j := 28) rfl]
    exact (g1 p (by omega)).congr _ _ (fun v _ => ⟨a9.rd (j := 33) rfl v, a9.rd (j := 32) rfl v⟩)) hty1 hpt hfr hPU (fun p h1 h2 => ⟨(a8 p h1 h2).2, by
      unfold svO
      have := slN_le (D := D) (f := f) (p - D.bP f)
      omega⟩) hA hM hI2 har1 a4 (fun j i j1 j2 i1 i2 hk => by
      rw [efr0] at i1
      obtain ⟨e, he⟩ : ∃ e, PL[i - n0]? = some e := ⟨PL[i - n0]'(by omega), List.getElem?_eq_getElem (by omega)⟩
      have := a6 (i - n0) e he
      rw [show n0 + (i - n0) = i by omega] at this
      rw [this]
      exact ⟨j1, j2, .inl (hblm e (List.mem_of_getElem? he))⟩) d (100 * (D.bF (f + 1) - D.bF f)) S σ2 NL2 h2 (jk (dj w3)) (dj w5) (by omega) (by omega) ⟨e1, e2, e3, e4, hw, fun i hi => ⟨(rd σ2 76 i).toInt, (i32_of _).symm, Int32.le_toInt _, Int32.toInt_lt _⟩⟩ (fun t v e k => (eL2 _ _).mp (b4 t v e k))
  obtain ⟨y1, y2, y3, y4, y5, y6⟩ := z4
  have hlen3 := hA NL3 y3 (fun e he => (y4 e he).1)
  rw [efr0] at z1
  refine ⟨σ3, pe, h3, H1 + NL3.length, S3, ow, u3, .int 0, u5, ?_, y1, by omega, by omega, z2, z3, fun t v e k => z5 t v e (b3 t v e k), fun t v e => ⟨fun k => ?_, fun ⟨v', k1, k2⟩ => ?_⟩, y2, a4, a5, a6, ?_, fun p h1 h2 => ?_, fun i e he => ?_, ?_, fun i hi => ?_, fun i h1 h2 => ?_, fun i hi => ?_, fun g hg => ?_⟩
  · have r169 : rn L xs (d + 4) 169 0 [.ref 74, .int (i32 (f : Int)), jv, jv] [] σ1 = some (.inl none, σ2) := by
      rw [e169_0, c_in (by omega) (by omega) (by omega), i32_ixn (by omega), (hR1.1 f hf).1.2.2.2.2.1]
      exact b1
    rw [a1, e163_175 (d + 4), bV_ok r169]
    exact z1
  · exact lfp_c (fr := frO D Gs f n0) (n := n0 + PL.length) (pe := pe) (sv := svO D f) (cap := cpC D pt by' σ) hI2 hF hf hpt hfr hPU (fun t v e k => z5 t v e (b3 t v e k)) (fun j v j1 j2 ⟨q', q1, q2, q3, q4⟩ => by
      obtain ⟨e', e1', e2'⟩ := qcap j q' j1 j2 q1 q2 q3
      have := (b5 j e' j1 j2 e1').ge hI2 z5
      rw [ev, e2'] at this
      rw [q4]; exact this) z8 z9 t v ((eL2 _ _).mp k)
  · have := (eL2 _ _).mpr (z6 t v' e k1)
    rw [k2] at this
    exact this
  · obtain ⟨⟨c1, c2, c3, c4, c5⟩, c6, c7⟩ := a7
    have l81 : ln σ3 81 = ln σ1 81 := (y5.1.2.2 81 rfl).1
    have l82 : ln σ3 82 = ln σ1 82 := (y5.1.2.2 82 rfl).1
    exact ⟨⟨by rw [y5.rd (j := 79) rfl]; exact c1, by rw [y5.rd (j := 80) rfl]; exact c2, by rw [l81]; exact c3, by rw [l81]; exact c4, fun i hi => by rw [y5.rd (j := 81) rfl]; exact c5 i hi⟩, by rw [y5.rd (j := 74) rfl]; exact c6, by rw [l82, l81]; exact c7⟩
  · rw [y5.rd (j := 77) rfl, y5.rd (j := 78) rfl]; exact a8 p h1 h2
  · have hm := puL_mem _ e (by rw [← ePL]; exact List.mem_of_getElem? he)
    have hil : i < PL.length := (List.getElem?_eq_some_iff.mp he).1
    refine ⟨(z7 (n0 + i) (by omega)).1, ?_⟩
    -- which put it is
    have hk : frO D Gs f n0 e.1 + e.2 = n0 + i := by
      have h2 := puL_at (D := D) (Gs := Gs) (f := f) (e.1 - D.bP f) e.2 (by rw [show D.bP f + (e.1 - D.bP f) = e.1 by omega]; exact hm.2.2)
      rw [show D.bP f + (e.1 - D.bP f) = e.1 by omega] at h2
      have h3 := puL_pre (D.bP (f + 1) - (e.1 + 1)) _ _ _ h2
      rw [show e.1 - D.bP f + 1 + (D.bP (f + 1) - (e.1 + 1)) = D.bP (f + 1) - D.bP f by omega, ← ePL] at h3
      have hnd : PL.Nodup := by rw [ePL]; exact puL_nodup _
      have := (List.getElem?_inj hil hnd).mp (he.trans h3.symm)
      unfold frO
      omega
    have ow1 := z8 (n0 + i) (by rw [efr0]; omega) (by omega)
    rw [a6 i e he] at ow1
    have hin : ∀ p, D.bP f ≤ p → p < D.bP (f + 1) → ((frO D Gs f n0 (D.st p) ≤ n0 + i ∧ n0 + i < frO D Gs f n0 (p + 1)) ↔ spn D p e.1) := fun p h1 h2 => by
      have hp := hPf.2.2.1 p h1 h2
      rw [← hk]
      exact hPU.in (fun p q h1 h2 _ => frO.mono p q h1 h2) hp.1.2.2.1 hp.1.2.2.2 h2 hm.1 (by omega) hm.2.2
    have erb : ∀ p, rBx D f C c h3 σ1 p (pnC D σ e.1 e.2) ↔ rBx D f C c h3 σ p (pnC D σ e.1 e.2) := fun p => by unfold rBx; rw [eB]
    rcases ow1 with ⟨o1, o2⟩ | ⟨p, o1, o2, o3, o4, o5, o6, o7⟩
    · refine .inl ⟨o1, fun p h1 h2 h3 => ?_⟩
      have := (hin p h1 h2).mpr h3
      exact (erb p).mp (o2 p h2 h1 this.1 this.2)
    · refine .inr ⟨p, o2, o1, o3, (hin p o2 o1).mp ⟨o4, o5⟩, fun k => o6 ((erb p).mpr k), fun p' h1 h2 h3 => ?_⟩
      have := (hin p' h1 (by omega)).mpr h3
      exact (erb p').mp (o7 p' h2 h1 this.1 this.2)
  · exact (a9.1.sub rfl rfl : frG FRC [59, 60, 61, 75, 76, 81, 82] σ σ1).trans (y5.1.sub rfl rfl)
  · rw [y5.2 i hi]; exact a9.rd (j := 50) rfl i
  · rw [y5.rd (j := 74) rfl]; exact a9.2 i h1 h2
  · rw [y5.rd (j := 81) rfl, y5.rd (j := 82) rfl]; exact a10 i hi
  · rw [y5.rd (j := 79) rfl, y5.rd (j := 80) rfl]; exact a11 g hg
end REGC
