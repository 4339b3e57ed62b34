/-! RUNS, COMPONENT: objects -/
def cwd (pl : Nat → Nat) (v : vaL) : Int32 := if v.1 = 2 then i32 (pl (oid v) : Int) else v.2
def hdO (D : pgD) (x : obD) : Nat := if x.kd = 1 then 0 else if x.kd = 2 then 1 else 2 + D.vl x.pt
/-- what objects are like -/
def WFo (D : pgD) (rg : rgD) (cd : cdD) (x : obD) : Prop := (x.kd = 1 ∨ x.kd = 2 ∨ x.kd = 3) ∧ (x.kd ≠ 3 → x.co.length = 2 ∧ x.kp = []) ∧ (x.kd = 3 → x.co.length = (cd.cg (D.vl x.pt)).length ∧ x.kp.length = (rg.kp (D.vl x.pt)).length ∧ D.vl x.pt < 4101) ∧ x.co.length + x.kp.length ≤ 100 ∧ (∀ w, w ∈ x.co → w.1 ≤ 2) ∧ ∀ r s, (r, s) ∈ x.kp → r < 2000
/-- an object at a place -/
def CObw (D : pgD) (f : Nat → vaL → Int32) (x : obD) (a : Nat) (σ : tvS) : Prop := (rd σ 104 a = i32 (hdO D x : Int) ∧ rd σ 105 a = 0) ∧ (∀ t v, x.co[t]? = some v → rd σ 104 (a + 1 + t) = f t v ∧ rd σ 105 (a + 1 + t) = i32 (v.1 : Int)) ∧ ∀ (t r s : Nat), x.kp[t]? = some (r, s) → rd σ 104 (a + 1 + x.co.length + t) = i32 (r : Int) ∧ rd σ 105 (a + 1 + x.co.length + t) = 0
section COBJ
variable {L : Nat} {xs : Nat → Int32} {σ σ' : tvS} {D : pgD} {rg : rgD} {cd : cdD} {x : obD} {a b : Nat} {f f' : Nat → vaL → Int32}
theorem WFo.sz (h : WFo D rg cd x) : szO x = 1 + x.co.length + x.kp.length := by
  unfold szO
  by_cases k : x.kd = 3
  · rw [if_pos k]
  · rw [if_neg k, (h.2.1 k).1, (h.2.1 k).2]; rfl
theorem CObw.cong (h : CObw D f x a σ) (hm : ∀ j, j < 1 + x.co.length + x.kp.length → rd σ' 104 (b + j) = rd σ 104 (a + j) ∧ rd σ' 105 (b + j) = rd σ 105 (a + j)) (hf : ∀ t v, x.co[t]? = some v → f' t v = f t v) : CObw D f' x b σ' := by
  obtain ⟨⟨h1, h2⟩, h3, h4⟩ := h
  refine ⟨?_, fun t v hv => ?_, fun t r s hs => ?_⟩
  · have := hm 0 (by omega)
    rw [Nat.add_zero, Nat.add_zero] at this
    rw [this.1, this.2]; exact ⟨h1, h2⟩
  · have ht := (List.getElem?_eq_some_iff.mp hv).1
    have := hm (1 + t) (by omega)
    rw [show b + 1 + t = b + (1 + t) by omega, this.1, this.2, show a + (1 + t) = a + 1 + t by omega, hf t v hv]; exact h3 t v hv
  · have ht := (List.getElem?_eq_some_iff.mp hs).1
    have := hm (1 + x.co.length + t) (by omega)
    rw [show b + 1 + x.co.length + t = b + (1 + x.co.length + t) by omega, this.1, this.2, show a + (1 + x.co.length + t) = a + 1 + x.co.length + t by omega]; exact h4 t r s hs
theorem nar8 {z : Nat} (h : z ≤ 2) : vp_nar .byte (i32 (z : Int)).toInt8.toInt32 = i32 (z : Int) := by
  have e : z = 0 ∨ z = 1 ∨ z = 2 := by omega
  rcases e with e | e | e <;> subst e <;> decide
theorem set_c {k : Nat} {y : Int32} {z : Nat} (hk : k < 51200) (hz : z ≤ 2) (d : Nat) : rn L xs (d + 1) 238 0 [.ref 103, .int (i32 (k : Int)), .int y, .int (i32 (z : Int))] [] σ = some (.inl none, wr (wr σ 104 k y) 105 k (i32 (z : Int))) := by
  rw [e238_0, c_in (by omega) (by omega) (by omega), c_in (by omega) (by omega) (by omega), i32_ixn (by omega), nar8 hz]
/-- how large an object is -/
def CSz (D : pgD) (rg : rgD) (cd : cdD) (σ : tvS) : Prop := ∀ j, j < D.bF (D.fc + 1) → rd σ 39 j = i32 ((cd.cg j).length : Int) ∧ rd σ 84 j = i32 ((rg.kp j).length : Int)
theorem words_c {j : Nat} (h : CSz D rg cd σ) (hj : j < D.bF (D.fc + 1)) (hj2 : j < 4101) (d : Nat) : rn L xs (d + 2) 196 0 [.ref 94, .int (i32 (j : Int))] [] σ = some (.inl (some (.int (i32 ((1 + (cd.cg j).length + (rg.kp j).length : Nat) : Int)))), σ) := by
  obtain ⟨h1, h2⟩ := h j hj
  have p : rn L xs (d + 1) 161 0 [.ref 74, .int (i32 (j : Int))] [] σ = some (.inl (some (.int (i32 ((rg.kp j).length : Int)))), σ) := by
    rw [e161_0, c_in (by omega) (by omega) (by omega), i32_ixn (by omega), h2]
  have e : (1 + i32 ((cd.cg j).length : Int)) + i32 ((rg.kp j).length : Int) = i32 ((1 + (cd.cg j).length + (rg.kp j).length : Nat) : Int) := by rw [show (1 : Int32) = i32 1 from rfl, i32_add, i32_add]; congr 1
  rw [e196_0 (d + 1), c_in (by omega) (by omega) (by omega), bI_ok p, i32_ixn (by omega), h1, e]
theorem size_c (h : CSz D rg cd σ) (hx : WFo D rg cd x) (hj : x.kd = 3 → D.vl x.pt < D.bF (D.fc + 1)) (d : Nat) : rn L xs (d + 3) 234 0 [.ref 103, .int (i32 (hdO D x : Int))] [] σ = some (.inl (some (.int (i32 (szO x : Int)))), σ) := by
  obtain ⟨k, k1, k2, _⟩ := hx
  unfold hdO
  rcases k with e | e | e
  · rw [if_pos e, e234_0, show (2 : Int32) = i32 2 from rfl, c2_ge (by omega) (by omega) (by omega) (by omega), c_f (by omega), e234_19]
    unfold szO; rw [if_neg (by omega)]; rfl
  · rw [if_neg (by omega), if_pos e, e234_0, show (2 : Int32) = i32 2 from rfl, c2_ge (by omega) (by omega) (by omega) (by omega), c_f (by omega), e234_19]
    unfold szO; rw [if_neg (by omega)]; rfl
  · obtain ⟨g1, g2, g3⟩ := k2 e
    have w := words_c (L := L) (xs := xs) h (hj e) g3 d
    have e2 : i32 ((2 + D.vl x.pt : Nat) : Int) - 2 = i32 (D.vl x.pt : Int) := by rw [show (2 : Int32) = i32 2 from rfl, i32_sub]; congr 1; omega
    rw [if_neg (by omega), if_neg (by omega), e234_0, show (2 : Int32) = i32 2 from rfl, c2_ge (by omega) (by omega) (by omega) (by omega), c_t (by omega), e234_9 (d + 2), e2, bI_ok w, e234_19]
    unfold szO; rw [if_pos e, g1, g2]
/-- an object is copied, word for word -/
theorem copy_obj {sz to : Nat} (hz : sz ≤ 128) (ha : a + sz ≤ 51200) (ht : to + sz ≤ 51200) (hd : a + sz ≤ to ∨ to + sz ≤ a) (v2 : Value) (d : Nat) : ∀ (j k : Nat) (σ : tvS) (v2 : Value), k + j = sz → (∀ q, q < sz → ∃ z : Nat, z ≤ 2 ∧ rd σ 105 (a + q) = i32 (z : Int)) →
    ∃ σ' v2', rn L xs (d + 2) 233 76 [.ref 103, .int (i32 (a : Int)), v2, .int (i32 (sz : Int)), .int (i32 (to : Int)), .int (i32 (k : Int))] [] σ = rn L xs (d + 2) 233 115 [.ref 103, .int (i32 (a : Int)), v2', .int (i32 (sz : Int)), .int (i32 (to : Int)), .int (i32 (sz : Int))] [] σ' ∧ (∀ q, k ≤ q → q < sz → rd σ' 104 (to + q) = rd σ 104 (a + q) ∧ rd σ' 105 (to + q) = rd σ 105 (a + q)) ∧ (∀ q, q < to + k ∨ to + sz ≤ q → rd σ' 104 q = rd σ 104 q ∧ rd σ' 105 q = rd σ 105 q) ∧ frW [104, 105] σ σ' := by
  intro j
  induction j with
  | zero =>
    intro k σ v2 hk _
    refine ⟨σ, v2, ?_, fun q q1 q2 => by omega, fun _ _ => ⟨rfl, rfl⟩, frW.refl⟩
    rw [show k = sz by omega, e233_76, c2_ge (by omega) (by omega) (by omega) (by omega), c_t (by omega)]
  | succ j ih =>
    intro k σ v2 hk hs
    obtain ⟨z, z1, z2⟩ := hs k (by omega)
    have e1 : i32 (a : Int) + i32 (k : Int) = i32 ((a + k : Nat) : Int) := by rw [i32_add]; congr 1
    have e2 : i32 (to : Int) + i32 (k : Int) = i32 ((to + k : Nat) : Int) := by rw [i32_add]; congr 1
    have st := set_c (L := L) (xs := xs) (σ := σ) (k := to + k) (y := rd σ 104 (a + k)) (z := z) (by omega) z1 d
    obtain ⟨σ', v2', b1, b2, b3, b4⟩ := ih (k + 1) (wr (wr σ 104 (to + k) (rd σ 104 (a + k))) 105 (to + k) (i32 (z : Int))) (dj v2) (by omega) (fun q hq => by
      obtain ⟨y, y1, y2⟩ := hs q hq
      exact ⟨y, y1, by rw [wr_nei (by omega), wr_nek (by decide)]; exact y2⟩)
    refine ⟨σ', v2', ?_, fun q q1 q2 => ?_, fun q hq => ?_, ((frW_wr rfl).trans (frW_wr rfl)).trans b4⟩
    · rw [e233_76 (d + 1), c2_ge (by omega) (by omega) (by omega) (by omega), c_f (by omega), e1, c_in (by omega) (by omega) (by omega), c_in (by omega) (by omega) (by omega), i32_ixn (by omega), e2, z2, bV_ok st, i32_up]
      exact b1
    · by_cases e : q = k
      · subst e
        obtain ⟨g1, g2⟩ := b3 (to + q) (by omega)
        rw [g1, g2, wr_nek (by decide), wr_self, wr_self, z2]
        exact ⟨rfl, rfl⟩
      · obtain ⟨g1, g2⟩ := b2 q (by omega) q2
        rw [g1, g2, wr_nek (by decide), wr_nei (by omega), wr_nei (by omega), wr_nek (by decide)]
        exact ⟨rfl, rfl⟩
    · obtain ⟨g1, g2⟩ := b3 q (by omega)
      rw [g1, g2, wr_nek (by decide), wr_nei (by omega), wr_nei (by omega), wr_nek (by decide)]
      exact ⟨rfl, rfl⟩
end COBJ
