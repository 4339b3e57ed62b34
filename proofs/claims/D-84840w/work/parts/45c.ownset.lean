/-! REGIONS, THE COMPONENT: whose own each put is, as far as it is known what arrows hold -/
section OWNSC
variable {L : Nat} {xs : Nat → Int32} {σ σ' σ0 τ : tvS} {D : pgD} {m f : Nat}
/-- what a part shares with what is outside -/
def Bsh (D : pgD) (f : Nat) (σ : tvS) (p b : Nat) : Prop := b = oT σ p ∨ (∃ v, v ∈ D.sl p ∧ b = vT σ v) ∨ b = rT σ f
/-- a boxed type that is reached from there -/
def rBx (D : pgD) (f : Nat) (G : tG) (r : Nat → Nat) (h : Nat → Nat → Prop) (σ : tvS) (p y : Nat) : Prop := RQ G r h (Bsh D f σ p) y ∧ 2 ≤ G.1 (r y)
/-- types of the parts of a function, in memory -/
def TYc (D : pgD) (f N : Nat) (σ : tvS) : Prop := (∀ p, D.bP f ≤ p → p < D.bP (f + 1) → rd σ 66 p = i32 (oT σ p : Int) ∧ oT σ p < N) ∧ (∀ p v, D.bP f ≤ p → p < D.bP (f + 1) → v ∈ D.sl p → v < 3002 ∧ rd σ 67 v = i32 (vT σ v : Int) ∧ vT σ v < N) ∧ (rd σ 68 f = i32 (rT σ f : Int) ∧ rT σ f < N)
/-- the puts of parts, in memory -/
def FRm (D : pgD) (f n : Nat) (fr : Nat → Nat) (σ : tvS) : Prop := (∀ p, D.bP f ≤ p → p ≤ D.bP (f + 1) → rd σ 77 p = i32 (fr p : Int)) ∧ (∀ p q, D.bP f ≤ p → p ≤ q → q ≤ D.bP (f + 1) → fr p ≤ fr q) ∧ fr (D.bP (f + 1)) = n ∧ n ≤ 32768
/-- owners as far as the parts below P go -/
def OWp (D : pgD) (f : Nat) (fr : Nat → Nat) (rb : Nat → Prop) (P k : Nat) (o : Int) : Prop :=
  (o = -1 ∧ ∀ p, p < P → D.bP f ≤ p → fr (D.st p) ≤ k → k < fr (p + 1) → rb p) ∨
  (∃ p : Nat, p < P ∧ D.bP f ≤ p ∧ o = (p : Int) ∧ fr (D.st p) ≤ k ∧ k < fr (p + 1) ∧ ¬ rb p ∧ ∀ p', p' < p → D.bP f ≤ p' → fr (D.st p') ≤ k → k < fr (p' + 1) → rb p')
def FOW : List Nat := [52, 57, 61, 76]
theorem scope_reach {K1 K2 N : Nat} {G : tG} {r : Nat → Nat} {hl : Nat → List Nat} {hv : Nat → Nat} {H S : Nat} (hI : ∀ x, r (r x) = r x) (x1 x3 x4 x5 : Int32) (d : Nat) : ∀ (l : List Nat) (σ : tvS) (B : Nat → Prop) (ML : List Nat) (x6 : Int32) (v2 : Value), RCD K1 K2 N G r hl hv H S B ML σ → frT [52, 57, 61] [61] [12, 14, 15] σ0 σ → chC σ0 l x6 → (∀ v, v ∈ l → v < 3002 ∧ rd σ0 67 v = i32 (vT σ0 v : Int) ∧ vT σ0 v < N) →
    ∃ (σ' : tvS) (ML' : List Nat) (w2 : Value), rn L xs (d + 4) 170 141 [.ref 74, .int x1, v2, .int x3, .int x4, .int x5, .int x6] [] σ = rn L xs (d + 4) 170 180 [.ref 74, .int x1, w2, .int x3, .int x4, .int x5, .int (i32 (-1))] [] σ' ∧ RCD K1 K2 N G r hl hv H S (fun b => B b ∨ ∃ v, v ∈ l ∧ b = vT σ0 v) ML' σ' ∧ frT [52, 57, 61] [61] [12, 14, 15] σ0 σ' := by
  intro l
  induction l with
  | nil =>
    intro σ B ML x6 v2 hC hf hc _
    have hc : x6 = i32 (-1) := hc
    refine ⟨σ, ML, v2, ?_, ?_, hf⟩
    · rw [e170_141, hc, i32_raw, c2_refl]
    · obtain ⟨a1, a2, a3, a4⟩ := hC
      exact ⟨a1, fun t ht => ⟨(a2 t ht).1, (a2 t ht).2.mono (fun b k => .inl k)⟩, a3, fun b hb => hb.elim (a4 b) (fun ⟨v, hv, _⟩ => by cases hv)⟩
  | cons v l ih =>
    intro σ B ML x6 v2 hC hf hc hl
    obtain ⟨c1, c2, c3, c4⟩ := hc
    obtain ⟨g1, g2, g3⟩ := hl v List.mem_cons_self
    have e156 : rn L xs (d + 3) 156 0 [.ref 65, .int (i32 (v : Int))] [] σ = some (.inl (some (.int (i32 (vT σ0 v : Int)))), σ) := by
      rw [e156_0, c_in (by omega) (by omega) (by omega), i32_ixn (by omega), hf.rd (j := 67) rfl, g2]
    obtain ⟨s1, ML1, r1, r2, r3⟩ := reach_c (L := L) (xs := xs) hI hC g3 d jv jv
    have hf1 : frT [52, 57, 61] [61] [12, 14, 15] σ0 s1 := hf.trans (r3.sub rfl rfl rfl)
    obtain ⟨σ', ML', w2, y1, y2, y3⟩ := ih s1 _ ML1 (rd s1 32 v) (dj (dj v2)) r2 hf1 (by rw [hf1.rd (j := 32) rfl]; exact c4) (fun u hu => hl u (List.mem_cons_of_mem _ hu))
    refine ⟨σ', ML', w2, ?_, ?_, y3⟩
    · rw [e170_141 (d + 3), c1, i32_raw, c2_eq (by omega) (by omega) (by omega) (by omega), c_f (by omega), bI_ok e156]
      have r1' : rn L xs (d + 3) 99 0 [.ref 50, .int (i32 (vT σ0 v : Int)), .int 1000000, jv, jv] [] σ = some (.inl none, s1) := r1
      rw [bV_ok r1', c_in (by omega) (by omega) (by omega), i32_ixn (by omega)]
      exact y1
    · obtain ⟨a1, a2, a3, a4⟩ := y2
      refine ⟨a1, fun t ht => ⟨(a2 t ht).1, (a2 t ht).2.mono (fun b k => ?_)⟩, a3, fun b hb => a4 b ?_⟩
      · rcases k with (k | k) | ⟨u, u1, u2⟩
        · exact .inl k
        · exact .inr ⟨v, List.mem_cons_self, k⟩
        · exact .inr ⟨u, List.mem_cons_of_mem _ u1, u2⟩
      · rcases hb with hb | ⟨u, u1, u2⟩
        · exact .inl (.inl hb)
        · rcases List.mem_cons.mp u1 with e | e
          · rw [e] at u2; exact .inl (.inr u2)
          · exact .inr ⟨u, e, u2⟩
/-- those that have no owner yet and are not reached become the part's -/
theorem own_set {K1 K2 N n : Nat} {G : tG} {r : Nat → Nat} {hl : Nat → List Nat} {hv pe : Nat → Nat} {H S p hi : Nat} {B : Nat → Prop} {ML : List Nat} (hp : p < 4101) (hhi : hi ≤ n) (hn : n ≤ 32768) (x1 : Int32) (d : Nat) : ∀ (j k : Nat) (σ : tvS) (ow : Nat → Int) (v2 v4 : Value), k + j = hi → RCD K1 K2 N G r hl hv H S B ML σ → QP n pe σ → (∀ i, i < n → pe i < N) → (∀ i, i < n → rd σ 76 i = i32 (ow i) ∧ -2147483648 ≤ ow i ∧ ow i < 2147483648) →
    ∃ (σ' : tvS) (w2 w4 : Value) (ow' : Nat → Int), rn L xs (d + 3) 170 201 [.ref 74, .int x1, v2, .int (i32 (p : Int)), v4, .int (i32 (hi : Int)), .int (i32 (k : Int))] [] σ = rn L xs (d + 3) 170 250 [.ref 74, .int x1, w2, .int (i32 (p : Int)), w4, .int (i32 (hi : Int)), .int (i32 (hi : Int))] [] σ' ∧ RCD K1 K2 N G r hl hv H S B ML σ' ∧ (∀ i, i < n → rd σ' 76 i = i32 (ow' i) ∧ -2147483648 ≤ ow' i ∧ ow' i < 2147483648) ∧ (∀ i, i < n → if k ≤ i ∧ i < hi ∧ ow i = -1 ∧ r (pe i) ∉ ML then ow' i = (p : Int) else ow' i = ow i) ∧ frT [52, 76] [] [] σ σ' := by
  intro j
  induction j with
  | zero =>
    intro k σ ow v2 v4 e hC hQ hpe ho
    have e : k = hi := by omega
    subst e
    refine ⟨σ, v2, v4, ow, ?_, hC, ho, fun i hi => by rw [if_neg (fun q => by omega)], frT.refl⟩
    rw [e170_201, c2_ge (by omega) (by omega) (by omega) (by omega), c_t (by omega)]
  | succ j ih =>
    intro k σ ow v2 v4 e hC hQ hpe ho
    obtain ⟨q1, q2, q3, q4⟩ := id hQ
    have hR := hC.1.1.2.2
    have b75 := hR.le (k := 75) (M := 32768) (by decide)
    obtain ⟨o1, o2, o3⟩ := ho k (by omega)
    have l76 : ln σ 76 = ln σ 75 := q3
    -- the rest
    have rest : ∀ (s : tvS) (ow1 : Nat → Int) (u2 u4 : Value), RCD K1 K2 N G r hl hv H S B ML s → QP n pe s → (∀ i, i < n → rd s 76 i = i32 (ow1 i) ∧ -2147483648 ≤ ow1 i ∧ ow1 i < 2147483648) → (∀ i, i < n → if i = k ∧ ow i = -1 ∧ r (pe i) ∉ ML then ow1 i = (p : Int) else ow1 i = ow i) → frT [52, 76] [] [] σ s → ∃ (σ' : tvS) (w2 w4 : Value) (ow' : Nat → Int), rn L xs (d + 3) 170 244 [.ref 74, .int x1, u2, .int (i32 (p : Int)), u4, .int (i32 (hi : Int)), .int (i32 (k : Int))] [] s = rn L xs (d + 3) 170 250 [.ref 74, .int x1, w2, .int (i32 (p : Int)), w4, .int (i32 (hi : Int)), .int (i32 (hi : Int))] [] σ' ∧ RCD K1 K2 N G r hl hv H S B ML σ' ∧ (∀ i, i < n → rd σ' 76 i = i32 (ow' i) ∧ -2147483648 ≤ ow' i ∧ ow' i < 2147483648) ∧ (∀ i, i < n → if k ≤ i ∧ i < hi ∧ ow i = -1 ∧ r (pe i) ∉ ML then ow' i = (p : Int) else ow' i = ow i) ∧ frT [52, 76] [] [] σ σ' := by
      intro s ow1 u2 u4 hCs hQs hos h1 hfs
      obtain ⟨σ', w2, w4, ow', y1, y2, y3, y4, y5⟩ := ih (k + 1) s ow1 u2 u4 (by omega) hCs hQs hpe hos
      refine ⟨σ', w2, w4, ow', by rw [e170_244, i32_up]; exact y1, y2, y3, fun i hi' => ?_, hfs.trans y5⟩
      have a := h1 i hi'
      have b := y4 i hi'
      by_cases ei : i = k
      · rw [if_neg (fun q => by omega)] at b
        rw [b]
        by_cases c : i = k ∧ ow i = -1 ∧ r (pe i) ∉ ML
        · rw [if_pos c] at a
          rw [if_pos ⟨by omega, by omega, c.2.1, c.2.2⟩]; exact a
        · rw [if_neg c] at a
          rw [if_neg (fun q => c ⟨ei, q.2.2.1, q.2.2.2⟩)]; exact a
      · rw [if_neg (fun q => ei q.1)] at a
        rw [a] at b
        by_cases c : k ≤ i ∧ i < hi ∧ ow i = -1 ∧ r (pe i) ∉ ML
        · rw [if_pos ⟨by omega, c.2.1, c.2.2.1, c.2.2.2⟩] at b
          rw [if_pos c]; exact b
        · rw [if_neg (fun q => c ⟨by omega, q.2.1, q.2.2.1, q.2.2.2⟩)] at b
          rw [if_neg c]; exact b
    rw [e170_201 (d + 2), c2_ge (by omega) (by omega) (by omega) (by omega), c_f (by omega), c_in (by omega) (by omega) (by omega), i32_ixn (by omega), o1, i32_raw, c2_ne (by omega) (by omega) (by omega) (by omega)]
    by_cases c : ow k = -1
    · rw [c_f (by omega), c_in (by omega) (by omega) (by omega), q4 k (by omega)]
      obtain ⟨s1, f1, f2, f3⟩ := isReached_c (L := L) (xs := xs) hC (hpe k (by omega)) d
      have hQ1 : QP n pe s1 := ⟨(f3.1 74 rfl 7).trans q1, by rw [f3.ln]; exact q2, by rw [f3.ln, f3.ln]; exact q3, fun i hi => (f3.1 75 rfl i).trans (q4 i hi)⟩
      have n76 : ln s1 76 = ln σ 76 := f3.ln 76
      have wf : frT [52, 76] [] [] σ s1 := (f3.T [] [] rfl).sub rfl rfl rfl
      rw [bI_ok f1]
      by_cases cm : r (pe k) ∈ ML
      · rw [if_pos cm, show pv_c1 .ne (1 : Int32) = true from rfl, cond_true]
        refine rest s1 ow _ _ f2 hQ1 (fun i hi => by rw [f3.1 76 rfl]; exact ho i hi) (fun i hi => ?_) wf
        rw [if_neg (fun q => by rw [q.1] at q; exact q.2.2 cm)]
      · rw [if_neg cm, show pv_c1 .ne (0 : Int32) = false from rfl, cond_false, c_in (by omega) (by omega) (by omega)]
        have w2 : frT [76] [] [] s1 (wr s1 76 k (i32 (p : Int))) := frT_wr rfl (by decide)
        have hC2 : RCD K1 K2 N G r hl hv H S B ML (wr s1 76 k (i32 (p : Int))) := by
          obtain ⟨⟨⟨a1, a2, a3⟩, b1, b2, b3, b4, b5⟩, a6, a7, a8⟩ := f2
          exact ⟨⟨⟨a1.T w2 rfl ⟨rfl, rfl, rfl, rfl⟩ (fun _ _ _ => rfl), a2.T w2 rfl ⟨rfl, rfl, rfl, rfl⟩ ⟨rfl, rfl⟩, a3.wr⟩, b1, b2, b3, b4, b5⟩, a6, a7, a8⟩
        refine rest _ (fun i => if i = k then (p : Int) else ow i) _ _ hC2 hQ1 (fun i hi => ?_) (fun i hi => ?_) (wf.trans (w2.sub rfl rfl rfl))
        · by_cases ei : i = k
          · rw [ei, wr_self, if_pos rfl]; exact ⟨rfl, by omega, by omega⟩
          · rw [wr_nei ei, if_neg ei, f3.1 76 rfl]; exact ho i hi
        · by_cases ei : i = k
          · rw [if_pos ⟨ei, by rw [ei]; exact c, by rw [ei]; exact cm⟩, if_pos ei]
          · rw [if_neg (fun q => ei q.1), if_neg ei]
    · rw [c_t (by omega)]
      refine rest σ ow _ _ hC hQ ho (fun i hi => ?_) frT.refl
      rw [if_neg (fun q => by rw [q.1] at q; exact c q.2.1)]
end OWNSC
