/-! REGIONS, THE COMPONENT: arrows hold what goes beyond -/
section HOLDSC
variable {L : Nat} {xs : Nat → Int32} {σ σ' σ0 τ : tvS} {D : pgD} {m f : Nat}
/-- an arrow holds a type, or need not -/
def Hd (C : tG) (c : Nat → Nat) (h : Nat → Nat → Prop) (x u : Nat) : Prop := C.1 (c u) = 1 ∨ ∃ v, h (c x) v ∧ c v = c u
def hGe (c : Nat → Nat) (h h' : Nat → Nat → Prop) : Prop := ∀ t v, c t = t → h t v → h' t v
/-- no more than what Q says -/
def hLe (c : Nat → Nat) (h Q : Nat → Nat → Prop) : Prop := ∀ t v, c t = t → h t v → Q t (c v)
theorem Hd.ge {C : tG} {c : Nat → Nat} {h h' : Nat → Nat → Prop} {x u : Nat} (q : Hd C c h x u) (hI : ∀ x, c (c x) = c x) (g : hGe c h h') : Hd C c h' x u := q.imp id (fun ⟨v, v1, v2⟩ => ⟨v, g _ v (hI x) v1, v2⟩)
/-- while arrows come to hold more: A, what may be held; NL, what has come so far -/
def HPI (K1 K2 N : Nat) (C : tG) (c : Nat → Nat) (H1 S n : Nat) (pe ar : Nat → Nat) (A : Nat → Nat → Prop) (NL : List (Nat × Nat)) (h : Nat → Nat → Prop) (σ0 σ : tvS) : Prop :=
  CT K1 K2 N C c h (H1 + NL.length) S σ ∧ QP n pe σ ∧ NL.Nodup ∧ (∀ e, e ∈ NL → A e.1 e.2 ∧ ∃ v, h (c (ar e.1)) v ∧ c v = e.2) ∧ frT FHL [59, 60] [11] σ0 σ
theorem HPI.hold {K1 K2 N : Nat} {C : tG} {c : Nat → Nat} {H1 S n M j u : Nat} {pe ar : Nat → Nat} {A : Nat → Nat → Prop} {NL : List (Nat × Nat)} {h Q : Nat → Nat → Prop} (hA : ∀ l : List (Nat × Nat), l.Nodup → (∀ e, e ∈ l → A e.1 e.2) → l.length ≤ M) (hM : H1 + M < 212992) (hI : HPI K1 K2 N C c H1 S n pe ar A NL h σ0 σ) (hx : ar j < N) (hk : C.1 (c (ar j)) = 4) (hu : u < N) (ha : C.1 (c u) ≠ 1 → A j (c u)) (hQ : hLe c h Q) (hq : C.1 (c u) ≠ 1 → Q (c (ar j)) (c u)) (d : Nat) (v3 : Value) :
    ∃ (σ' : tvS) (y : Int32) (NL' : List (Nat × Nat)) (h' : Nat → Nat → Prop), rn L xs (d + 3) 88 0 [.ref 50, .int (i32 (ar j : Int)), .int (i32 (u : Int)), v3] [] σ = some (.inl (some (.int y)), σ') ∧ HPI K1 K2 N C c H1 S n pe ar A NL' h' σ0 σ' ∧ hGe c h h' ∧ hLe c h' Q ∧ Hd C c h' (ar j) u ∧ ((y = 0 ∧ NL' = NL ∧ h' = h) ∨ (y = 1 ∧ NL.length < NL'.length)) := by
  obtain ⟨a1, a2, a3, a4, a5⟩ := hI
  have hl := hA NL a3 (fun e he => (a4 e he).1)
  have hcc : ∀ x, c (c x) = c x := by
    obtain ⟨_, _, _, _, _, _, _, g, _⟩ := a1; exact g.1
  rcases a1.hold (L := L) (xs := xs) (by omega) hx hu hk d v3 with ⟨s1, b1, b2, b3, b4⟩ | ⟨s1, h', b1, b2, b3, b4, b5, b6⟩
  · exact ⟨s1, 0, NL, h, b1, ⟨b2, ⟨(b4.rd (j := 74) rfl 7).trans a2.1, by rw [(b4.1.2.2 75 rfl).1]; exact a2.2.1, by rw [(b4.1.2.2 75 rfl).1, (b4.1.2.2 76 rfl).1]; exact a2.2.2.1, fun i hi => (b4.rd (j := 75) rfl i).trans (a2.2.2.2 i hi)⟩, a3, a4, a5.trans b4⟩, fun _ _ _ k => k, hQ, b3, .inl ⟨rfl, rfl, rfl⟩⟩
  · have hnm : (j, c u) ∉ NL := fun k => by
      obtain ⟨_, v, v1, v2⟩ := a4 _ k
      exact b5 ⟨v, v1, v2⟩
    refine ⟨s1, 1, NL ++ [(j, c u)], h', b1, ⟨?_, ⟨(b6.rd (j := 74) rfl 7).trans a2.1, by rw [(b6.1.2.2 75 rfl).1]; exact a2.2.1, by rw [(b6.1.2.2 75 rfl).1, (b6.1.2.2 76 rfl).1]; exact a2.2.2.1, fun i hi => (b6.rd (j := 75) rfl i).trans (a2.2.2.2 i hi)⟩, ?_, fun e he => ?_, a5.trans b6⟩, fun t v e k => (b3 t v e).mpr (.inl k), fun t v e k => ?_, .inr ⟨c u, (b3 _ _ (hcc _)).mpr (.inr ⟨rfl, rfl⟩), hcc u⟩, .inr ⟨rfl, ?_⟩⟩
    · rw [List.length_append]; exact b2
    · rw [List.nodup_append]
      exact ⟨a3, List.nodup_cons.mpr ⟨fun k => (by cases k), List.nodup_nil⟩, fun p hp q hq e => hnm (by rw [List.mem_singleton.mp hq] at e; rw [← e]; exact hp)⟩
    · rcases List.mem_append.mp he with k | k
      · obtain ⟨q1, v, q2, q3⟩ := a4 e k
        exact ⟨q1, v, (b3 _ _ (hcc _)).mpr (.inl q2), q3⟩
      · rw [List.mem_singleton.mp k]
        exact ⟨ha b4, c u, (b3 _ _ (hcc _)).mpr (.inr ⟨rfl, rfl⟩), hcc u⟩
    · rcases (b3 t v e).mp k with k | ⟨k1, k2⟩
      · exact hQ t v e k
      · rw [k1, k2, hcc u]; exact hq b4
    · rw [List.length_append]; exact Nat.lt_succ_self _
/-- what has come of some holds: y, whether there was more before -/
def HRS (K1 K2 N : Nat) (C : tG) (c : Nat → Nat) (H1 S n : Nat) (pe ar : Nat → Nat) (A : Nat → Nat → Prop) (NL : List (Nat × Nat)) (h Q : Nat → Nat → Prop) (σ0 : tvS) (y y' : Int32) (NL' : List (Nat × Nat)) (h' : Nat → Nat → Prop) (σ' : tvS) : Prop :=
  HPI K1 K2 N C c H1 S n pe ar A NL' h' σ0 σ' ∧ hGe c h h' ∧ hLe c h' Q ∧ NL.length ≤ NL'.length ∧ ((y' = y ∧ NL' = NL ∧ h' = h) ∨ (y' = 1 ∧ NL.length < NL'.length))
theorem HRS.trans {K1 K2 N : Nat} {C : tG} {c : Nat → Nat} {H1 S n : Nat} {pe ar : Nat → Nat} {A : Nat → Nat → Prop} {NL NL' NL'' : List (Nat × Nat)} {h h' h'' Q : Nat → Nat → Prop} {y y' y'' : Int32} {σ'' : tvS} (g : HRS K1 K2 N C c H1 S n pe ar A NL h Q σ0 y y' NL' h' σ') (g' : HRS K1 K2 N C c H1 S n pe ar A NL' h' Q σ0 y' y'' NL'' h'' σ'') : HRS K1 K2 N C c H1 S n pe ar A NL h Q σ0 y y'' NL'' h'' σ'' := by
  obtain ⟨a1, a2, a3, a4, a5⟩ := g
  obtain ⟨b1, b2, b3, b4, b5⟩ := g'
  refine ⟨b1, fun t v e k => b2 t v e (a2 t v e k), b3, by omega, ?_⟩
  rcases b5 with ⟨c1, c2, c3⟩ | ⟨c1, c2⟩
  · rcases a5 with ⟨d1, d2, d3⟩ | ⟨d1, d2⟩
    · exact .inl ⟨c1.trans d1, c2.trans d2, c3.trans d3⟩
    · exact .inr ⟨c1.trans d1, by omega⟩
  · exact .inr ⟨c1, by omega⟩
section LOOPS
variable {K1 K2 N : Nat} {C : tG} {c : Nat → Nat} {H1 S n M : Nat} {pe ar : Nat → Nat} {A : Nat → Nat → Prop} {Q : Nat → Nat → Prop} {ow : Nat → Int}
theorem holds_in {j p b fb k0 : Nat} (hA : ∀ l : List (Nat × Nat), l.Nodup → (∀ e, e ∈ l → A e.1 e.2) → l.length ≤ M) (hM : H1 + M < 212992) (hI2 : ∀ x, c (c x) = c x) (hp : p < 4101) (hb : b < 4101) (hn : n ≤ 32768) (hfb : fb ≤ n) (h66 : rd σ0 66 p = i32 (ar j : Int)) (h77 : rd σ0 77 (b + 1) = i32 (fb : Int)) (hx : ar j < N) (hk : C.1 (c (ar j)) = 4) (hpe : ∀ i, i < n → pe i < N) (hAp : ∀ i, k0 ≤ i → i < n → C.1 (c (pe i)) ≠ 1 → A j (c (pe i))) (ho : ∀ i, i < n → rd σ0 76 i = i32 (ow i) ∧ -2147483648 ≤ ow i ∧ ow i < 2147483648) (hq : ∀ i, k0 ≤ i → i < fb → (ow i = -1 ∨ (b : Int) < ow i) → C.1 (c (pe i)) ≠ 1 → Q (c (ar j)) (c (pe i))) (x1 x2 x4 x7 : Int32) (d : Nat) :
    ∀ (i k : Nat) (σ : tvS) (NL : List (Nat × Nat)) (h : Nat → Nat → Prop) (y : Int32), (y = 0 ∨ y = 1) → k + i = fb → HPI K1 K2 N C c H1 S n pe ar A NL h σ0 σ → hLe c h Q → k0 ≤ k →
    ∃ (σ' : tvS) (NL' : List (Nat × Nat)) (h' : Nat → Nat → Prop) (y' : Int32), rn L xs (d + 4) 171 72 [.ref 74, .int x1, .int x2, .int y, .int x4, .int (i32 (p : Int)), .int (i32 (b : Int)), .int x7, .int (i32 (k : Int))] [] σ = rn L xs (d + 4) 171 151 [.ref 74, .int x1, .int x2, .int y', .int x4, .int (i32 (p : Int)), .int (i32 (b : Int)), .int x7, .int (i32 (fb : Int))] [] σ' ∧ (y' = 0 ∨ y' = 1) ∧ HRS K1 K2 N C c H1 S n pe ar A NL h Q σ0 y y' NL' h' σ' ∧ (∀ q, k ≤ q → q < fb → (ow q = -1 ∨ (b : Int) < ow q) → Hd C c h' (ar j) (pe q)) := by
  intro i
  induction i with
  | zero =>
    intro k σ NL h y hy e hI hQ hk0
    have e : k = fb := by omega
    subst e
    refine ⟨σ, NL, h, y, ?_, hy, ⟨hI, fun _ _ _ k => k, hQ, Nat.le_refl _, .inl ⟨rfl, rfl, rfl⟩⟩, fun q h1 h2 => by omega⟩
    rw [e171_72 (d + 3), i32_up, c_in (by omega) (by omega) (by omega), i32_ixn (by omega), hI.2.2.2.2.rd (j := 77) rfl, h77, c2_ge (by omega) (by omega) (by omega) (by omega), c_t (by omega)]
  | succ i ih =>
    intro k σ NL h y hy e hI hQ hk0
    obtain ⟨o1, o2, o3⟩ := ho k (by omega)
    have hfm := hI.2.2.2.2
    have hQP := hI.2.1
    have b75 : ln σ 75 ≤ 32768 := by
      obtain ⟨_, _, _, _, _, _, t5, _⟩ := hI.1; exact t5.le (k := 75) (M := 32768) (by decide)
    have q2 := hQP.2.1
    have q3 := hQP.2.2.1
    have o1' : rd σ 76 k = i32 (ow k) := (hfm.rd (j := 76) rfl k).trans o1
    have go : rn L xs (d + 4) 171 72 [.ref 74, .int x1, .int x2, .int y, .int x4, .int (i32 (p : Int)), .int (i32 (b : Int)), .int x7, .int (i32 (k : Int))] [] σ = cond (decide (ow k = -1)) (rn L xs (d + 4) 171 109 [.ref 74, .int x1, .int x2, .int y, .int x4, .int (i32 (p : Int)), .int (i32 (b : Int)), .int x7, .int (i32 (k : Int))] [] σ) (cond (decide (ow k ≤ (b : Int))) (rn L xs (d + 4) 171 145 [.ref 74, .int x1, .int x2, .int y, .int x4, .int (i32 (p : Int)), .int (i32 (b : Int)), .int x7, .int (i32 (k : Int))] [] σ) (rn L xs (d + 4) 171 109 [.ref 74, .int x1, .int x2, .int y, .int x4, .int (i32 (p : Int)), .int (i32 (b : Int)), .int x7, .int (i32 (k : Int))] [] σ)) := by
      rw [e171_72 (d + 3), i32_up, c_in (by omega) (by omega) (by omega), i32_ixn (by omega), hfm.rd (j := 77) rfl, h77, c2_ge (by omega) (by omega) (by omega) (by omega), c_f (by omega), c_in (by omega) (by omega) (by omega), i32_ixn (by omega), o1', i32_raw, c2_eq (by omega) (by omega) (by omega) (by omega), c_in (by omega) (by omega) (by omega), c2_le (by omega) (by omega) (by omega) (by omega)]
    by_cases cc : ow k = -1 ∨ (b : Int) < ow k
    · obtain ⟨s1, yh, NL1, h1, a1, a2, a3, a4, a5, a6⟩ := HPI.hold (L := L) (xs := xs) (j := j) hA hM hI hx hk (hpe k (by omega)) (hAp k hk0 (by omega)) hQ (hq k hk0 (by omega) cc) d jv
      have e153 : rn L xs (d + 3) 153 0 [.ref 65, .int (i32 (p : Int))] [] σ = some (.inl (some (.int (i32 (ar j : Int)))), σ) := by
        rw [e153_0, c_in (by omega) (by omega) (by omega), i32_ixn (by omega), hfm.rd (j := 66) rfl, h66]
      have e109 : rn L xs (d + 4) 171 109 [.ref 74, .int x1, .int x2, .int y, .int x4, .int (i32 (p : Int)), .int (i32 (b : Int)), .int x7, .int (i32 (k : Int))] [] σ = rn L xs (d + 4) 171 72 [.ref 74, .int x1, .int x2, .int (if yh = 1 then 1 else y), .int x4, .int (i32 (p : Int)), .int (i32 (b : Int)), .int x7, .int (i32 ((k + 1 : Nat) : Int))] [] s1 := by
        rw [e171_109 (d + 3), bI_ok e153, c_in (by omega) (by omega) (by omega), i32_ixn (by omega), hQP.2.2.2 k (by omega), bI_ok a1]
        rcases a6 with ⟨g, _⟩ | ⟨g, _⟩
        · rw [g, show pv_c1 .ne (0 : Int32) = false from rfl, cond_false, if_neg (by decide)]
          rcases hy with h0 | h0
          · rw [h0, show pv_c1 .eq (0 : Int32) = true from rfl, cond_true, e171_143, e171_144, e171_145, i32_up]
          · rw [h0, show pv_c1 .eq (1 : Int32) = false from rfl, cond_false, e171_139, e171_144, e171_145, i32_up]
        · rw [g, show pv_c1 .ne (1 : Int32) = true from rfl, cond_true, if_pos rfl, e171_139, e171_144, e171_145, i32_up]
      have hy1 : (if yh = 1 then 1 else y) = 0 ∨ (if yh = 1 then (1 : Int32) else y) = 1 := by
        split
        · exact .inr rfl
        · exact hy
      obtain ⟨σ', NL', h', y', z1, z2, z3, z4⟩ := ih (k + 1) s1 NL1 h1 (if yh = 1 then 1 else y) hy1 (by omega) a2 a4 (by omega)
      have g0 : HRS K1 K2 N C c H1 S n pe ar A NL h Q σ0 y (if yh = 1 then 1 else y) NL1 h1 s1 := by
        refine ⟨a2, a3, a4, ?_, ?_⟩
        · rcases a6 with ⟨_, g, _⟩ | ⟨_, g⟩
          · rw [g]; exact Nat.le_refl _
          · omega
        · rcases a6 with ⟨g, g2, g3⟩ | ⟨g, g2⟩
          · rw [g, if_neg (by decide)]; exact .inl ⟨rfl, g2, g3⟩
          · rw [g, if_pos rfl]; exact .inr ⟨rfl, g2⟩
      refine ⟨σ', NL', h', y', ?_, z2, g0.trans z3, fun q h1' h2' h3' => ?_⟩
      · rw [go]
        by_cases c1 : ow k = -1
        · rw [decide_eq_true c1, cond_true, e109]; exact z1
        · rw [decide_eq_false c1, cond_false, decide_eq_false (by omega), cond_false, e109]; exact z1
      · by_cases eq : q = k
        · rw [eq]; exact a5.ge hI2 z3.2.1
        · exact z4 q (by omega) h2' h3'
    · obtain ⟨σ', NL', h', y', z1, z2, z3, z4⟩ := ih (k + 1) σ NL h y hy (by omega) hI hQ (by omega)
      refine ⟨σ', NL', h', y', ?_, z2, z3, fun q h1' h2' h3' => ?_⟩
      · rw [go, decide_eq_false (by omega), cond_false, decide_eq_true (by omega), cond_true, e171_145, i32_up]; exact z1
      · by_cases eq : q = k
        · rw [eq] at h3'; exact absurd h3' cc
        · exact z4 q (by omega) h2' h3'
theorem holds_self {j p b0 : Nat} (hA : ∀ l : List (Nat × Nat), l.Nodup → (∀ e, e ∈ l → A e.1 e.2) → l.length ≤ M) (hM : H1 + M < 212992) (hI2 : ∀ x, c (c x) = c x) (hp : p < 4101) (hn : n ≤ 32768) (h66 : rd σ0 66 p = i32 (ar j : Int)) (hx : ar j < N) (hk : C.1 (c (ar j)) = 4) (hpe : ∀ i, i < n → pe i < N) (hAp : ∀ i, b0 ≤ i → i < n → C.1 (c (pe i)) ≠ 1 → A j (c (pe i))) (ho : ∀ i, i < n → rd σ0 76 i = i32 (ow i) ∧ -2147483648 ≤ ow i ∧ ow i < 2147483648) (hq : ∀ i, b0 ≤ i → i < n → ow i = -1 → C.1 (c (pe i)) ≠ 1 → Q (c (ar j)) (c (pe i))) (x1 x2 x4 : Int32) (d : Nat) :
    ∀ (i k : Nat) (σ : tvS) (NL : List (Nat × Nat)) (h : Nat → Nat → Prop) (y : Int32) (v6 v7 : Value), (y = 0 ∨ y = 1) → k + i = n → b0 ≤ k → HPI K1 K2 N C c H1 S n pe ar A NL h σ0 σ → hLe c h Q →
    ∃ (σ' : tvS) (NL' : List (Nat × Nat)) (h' : Nat → Nat → Prop) (y' : Int32) (w6 w7 : Value), rn L xs (d + 4) 171 176 [.ref 74, .int x1, .int x2, .int y, .int x4, .int (i32 (p : Int)), v6, v7, .int (i32 (k : Int))] [] σ = rn L xs (d + 4) 171 238 [.ref 74, .int x1, .int x2, .int y', .int x4, .int (i32 (p : Int)), w6, w7, .int (i32 (n : Int))] [] σ' ∧ (y' = 0 ∨ y' = 1) ∧ HRS K1 K2 N C c H1 S n pe ar A NL h Q σ0 y y' NL' h' σ' ∧ (∀ q, k ≤ q → q < n → ow q = -1 → Hd C c h' (ar j) (pe q)) := by
  intro i
  induction i with
  | zero =>
    intro k σ NL h y v6 v7 hy e hb hI hQ
    have e : k = n := by omega
    subst e
    refine ⟨σ, NL, h, y, v6, v7, ?_, hy, ⟨hI, fun _ _ _ k => k, hQ, Nat.le_refl _, .inl ⟨rfl, rfl, rfl⟩⟩, fun q h1 h2 => by omega⟩
    rw [e171_176 (d + 3), hI.2.1.1, c2_ge (by omega) (by omega) (by omega) (by omega), c_t (by omega)]
  | succ i ih =>
    intro k σ NL h y v6 v7 hy e hb hI hQ
    obtain ⟨o1, o2, o3⟩ := ho k (by omega)
    have hfm := hI.2.2.2.2
    have hQP := hI.2.1
    have b75 : ln σ 75 ≤ 32768 := by
      obtain ⟨_, _, _, _, _, _, t5, _⟩ := hI.1; exact t5.le (k := 75) (M := 32768) (by decide)
    have q2 := hQP.2.1
    have q3 := hQP.2.2.1
    have o1' : rd σ 76 k = i32 (ow k) := (hfm.rd (j := 76) rfl k).trans o1
    have e153 : rn L xs (d + 3) 153 0 [.ref 65, .int (i32 (p : Int))] [] σ = some (.inl (some (.int (i32 (ar j : Int)))), σ) := by
      rw [e153_0, c_in (by omega) (by omega) (by omega), i32_ixn (by omega), hfm.rd (j := 66) rfl, h66]
    by_cases cc : ow k = -1
    · obtain ⟨s1, yh, NL1, h1, a1, a2, a3, a4, a5, a6⟩ := HPI.hold (L := L) (xs := xs) (j := j) hA hM hI hx hk (hpe k (by omega)) (hAp k hb (by omega)) hQ (hq k hb (by omega) cc) d jv
      have go : ∃ w6 w7, rn L xs (d + 4) 171 176 [.ref 74, .int x1, .int x2, .int y, .int x4, .int (i32 (p : Int)), v6, v7, .int (i32 (k : Int))] [] σ = rn L xs (d + 4) 171 176 [.ref 74, .int x1, .int x2, .int (if yh = 1 then 1 else y), .int x4, .int (i32 (p : Int)), w6, w7, .int (i32 ((k + 1 : Nat) : Int))] [] s1 := by
        refine ⟨dj (dj v6), jk (dj (dj v7)), ?_⟩
        rw [e171_176 (d + 3), hQP.1, c2_ge (by omega) (by omega) (by omega) (by omega), c_f (by omega), c_in (by omega) (by omega) (by omega), i32_ixn (by omega), o1', i32_raw, c2_ne (by omega) (by omega) (by omega) (by omega), c_f (by omega), bI_ok e153, c_in (by omega) (by omega) (by omega), hQP.2.2.2 k (by omega), bI_ok a1]
        rcases a6 with ⟨g, _⟩ | ⟨g, _⟩
        · rw [g, show pv_c1 .ne (0 : Int32) = false from rfl, cond_false, if_neg (by decide)]
          rcases hy with h0 | h0
          · rw [h0, show pv_c1 .eq (0 : Int32) = true from rfl, cond_true, e171_230, e171_231, e171_232, i32_up]
          · rw [h0, show pv_c1 .eq (1 : Int32) = false from rfl, cond_false, e171_226, e171_231, e171_232, i32_up]
        · rw [g, show pv_c1 .ne (1 : Int32) = true from rfl, cond_true, if_pos rfl, e171_226, e171_231, e171_232, i32_up]
      obtain ⟨u6, u7, go⟩ := go
      have hy1 : (if yh = 1 then 1 else y) = 0 ∨ (if yh = 1 then (1 : Int32) else y) = 1 := by
        split
        · exact .inr rfl
        · exact hy
      obtain ⟨σ', NL', h', y', w6, w7, z1, z2, z3, z4⟩ := ih (k + 1) s1 NL1 h1 (if yh = 1 then 1 else y) u6 u7 hy1 (by omega) (by omega) a2 a4
      have g0 : HRS K1 K2 N C c H1 S n pe ar A NL h Q σ0 y (if yh = 1 then 1 else y) NL1 h1 s1 := by
        refine ⟨a2, a3, a4, ?_, ?_⟩
        · rcases a6 with ⟨_, g, _⟩ | ⟨_, g⟩
          · rw [g]; exact Nat.le_refl _
          · omega
        · rcases a6 with ⟨g, g2, g3⟩ | ⟨g, g2⟩
          · rw [g, if_neg (by decide)]; exact .inl ⟨rfl, g2, g3⟩
          · rw [g, if_pos rfl]; exact .inr ⟨rfl, g2⟩
      refine ⟨σ', NL', h', y', w6, w7, go.trans z1, z2, g0.trans z3, fun q h1' h2' h3' => ?_⟩
      by_cases eq : q = k
      · rw [eq]; exact a5.ge hI2 z3.2.1
      · exact z4 q (by omega) h2' h3'
    · obtain ⟨σ', NL', h', y', w6, w7, z1, z2, z3, z4⟩ := ih (k + 1) σ NL h y v6 (jk v7) hy (by omega) (by omega) hI hQ
      refine ⟨σ', NL', h', y', w6, w7, ?_, z2, z3, fun q h1' h2' h3' => ?_⟩
      · rw [e171_176 (d + 3), hQP.1, c2_ge (by omega) (by omega) (by omega) (by omega), c_f (by omega), c_in (by omega) (by omega) (by omega), i32_ixn (by omega), o1', i32_raw, c2_ne (by omega) (by omega) (by omega) (by omega), c_t (by omega), e171_232, i32_up]
        exact z1
      · by_cases eq : q = k
        · rw [eq] at h3'; exact absurd h3' cc
        · exact z4 q (by omega) h2' h3'
end LOOPS
end HOLDSC
