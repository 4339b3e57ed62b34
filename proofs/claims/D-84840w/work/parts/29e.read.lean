/-! READING: a part with what stands in it -/
def mKd (κ : Nat) : Nat := [1, 2, 3, 4, 5, 6, 6, 7, 8, 8, 8, 8, 8, 8, 8, 8, 9, 10, 11, 12, 13].getD κ 0
def opS (κ : Nat) : Nat := [30, 31, 32, 33, 34, 21, 29, 22].getD (κ - 8) 0
/-- what a part is in the one around, by its kind and which one it is -/
def rol (κ w : Nat) : Nat := if κ = 3 then 6 else if 8 ≤ κ ∧ κ ≤ 15 then 1 else if κ = 5 ∨ κ = 6 then 3 else if κ = 7 then 4 + w else if κ = 16 then 7 * w else if κ = 18 then [1, 0, 2].getD w 0 else if κ = 19 then [10, 0].getD w 0 else if κ = 20 then [8, 0, 9].getD w 0 else 0
def kid (l : List Nat) (w : Nat) : Int32 := match l[w]? with | some c => i32 c | none => i32 (-1)
/-- parts that stand side by side, from s up to p -/
def contK (σ : tvS) : Nat → List Nat → Nat → Prop
  | s, [], p => s = p
  | s, c :: r, p => rd σ 26 c = i32 s ∧ s ≤ c ∧ c < p ∧ contK σ (c + 1) r p
/-- what the component has besides, when a part with kids is made -/
def nodC (σ σ' : tvS) (P : Nat) (κ : Nat) (f l s : Int32) (st : Nat) (kids : List Nat) : Prop :=
  (∀ j i, i ≠ P → ¬ (i ∈ kids ∧ (j = 24 ∨ j = 25)) → (j = 15 → i ≠ 13) → rd σ' j i = rd σ j i) ∧
  (∀ j i, rgN 16 29 j = false → (j = 15 → i ≠ 13) → rd σ' j i = rd σ j i) ∧
  (rd σ' 16 P = i32 κ ∧ rd σ' 17 P = f ∧ rd σ' 18 P = l ∧ rd σ' 19 P = i32 (-1) ∧ rd σ' 23 P = i32 (-1) ∧ rd σ' 24 P = i32 (-1) ∧ rd σ' 25 P = 0 ∧ rd σ' 26 P = i32 st ∧ rd σ' 27 P = 0 ∧ rd σ' 28 P = s) ∧
  (∀ w, w < 3 → rd σ' (20 + w) P = kid kids w) ∧ (∀ w c : Nat, kids[w]? = some c → rd σ' 24 c = i32 P ∧ rd σ' 25 c = i32 (rol κ w)) ∧
  (rd σ' 15 13 = i32 (P + 1 : Nat) ∧ σ'.2 = σ.2)
def nodM (τ τ' : tvS) (P : Nat) (κ : Int32) (f l : Int32) (st : Nat) (kids : List Nat) : Prop :=
  (∀ j i, i ≠ P → ¬ (i ∈ kids ∧ j = 159) → (j = 123 → i ≠ 46) → rd τ' j i = rd τ j i) ∧
  (∀ j i, ¬ (151 ≤ j ∧ j ≤ 163) → (j = 123 → i ≠ 46) → rd τ' j i = rd τ j i) ∧
  (rd τ' 151 P = κ ∧ rd τ' 152 P = f ∧ rd τ' 153 P = l ∧ rd τ' 158 P = f ∧ rd τ' 159 P = i32 (-1) ∧ rd τ' 160 P = rd τ 123 43 ∧ rd τ' 161 P = i32 st ∧ rd τ' 163 P = 0) ∧
  (∀ w c : Nat, kids[w]? = some c → rd τ' 159 c = i32 P) ∧ (rd τ' 123 46 = i32 (P + 1 : Nat) ∧ τ'.2 = τ.2)
section RD4
variable {L : Nat} {xs : Nat → Int32} {m V S : Nat} {sc : List Nat} {σ τ σ' τ' σ'' : tvS}
theorem nodC.zero {P κ : Nat} {f l s : Int32} : nodC σ (cNew σ P (i32 κ) f l s) P κ f l s P [] := by
  obtain ⟨a1, a2, a3, a4, a5, a6, a7, a8, a9, a10, a11, a12, a13, a14⟩ := cNew_at (σ := σ) (P := P) (κ := i32 κ) (f := f) (l := l) (s := s)
  refine ⟨fun j i h1 _ h3 => cNew_old h1 h3, fun j i h h2 => cNew_oth h h2, ⟨a1, a2, a3, a4, a8, a9, a10, a11, a12, a13⟩, fun w hw => ?_, fun w c h => (by cases h), a14, rfl⟩
  match w, hw with
  | 0, _ => exact a5
  | 1, _ => exact a6
  | 2, _ => exact a7
theorem nodC.add {P κ : Nat} {f l s : Int32} {st st' : Nat} {kids : List Nat} (h : nodC σ σ' P κ f l s st kids) {c : Nat} (hc : c ≠ P) (hk : c ∉ kids) (hw : kids.length < 3) {role : Int32} (hr : i32 (rol κ kids.length) = role) : nodC σ (cPut σ' P kids.length c role st') P κ f l s st' (kids ++ [c]) := by
  obtain ⟨a1, a2, ⟨b1, b2, b3, b4, b5, b6, b7, b8, b9, b10⟩, a4, a5, a6, a7⟩ := h
  obtain ⟨e1, e2, e3, e4⟩ := cPut_at (σ := σ') (p := P) (w := kids.length) (c := c) (s := st') (role := role) hw
  have hin : ∀ w x, kids[w]? = some x → x ∈ kids := fun w x hx => List.mem_of_getElem? hx
  have hnP : ∀ j, j ≠ 20 + kids.length → j ≠ 26 → rd (cPut σ' P kids.length c role st') j P = rd σ' j P := fun j h1 h2 => cPut_oth (fun q => h1 q.1) (fun q => hc q.2.symm) (fun q => hc q.2.symm) (fun q => h2 q.1)
  refine ⟨fun j i h1 h2 h3 => ?_, fun j i hj h15 => ?_, ⟨?_, ?_, ?_, ?_, ?_, ?_, ?_, e4, ?_, ?_⟩, fun w hw2 => ?_, fun w x hx => ?_, ?_, a7⟩
  · have h2' : ¬ (i = c ∧ (j = 24 ∨ j = 25)) := fun q => h2 ⟨List.mem_append.mpr (Or.inr (by rw [q.1]; exact List.mem_singleton.mpr rfl)), q.2⟩
    rw [cPut_oth (fun q => h1 q.2) (fun q => h2' ⟨q.2, Or.inl q.1⟩) (fun q => h2' ⟨q.2, Or.inr q.1⟩) (fun q => h1 q.2)]
    exact a1 j i h1 (fun q => h2 ⟨List.mem_append.mpr (Or.inl q.1), q.2⟩) h3
  · have hj2 : ¬ (16 ≤ j ∧ j < 29) := fun q => by
      unfold rgN at hj
      rw [Nat.ble_eq_true_of_le q.1, Nat.blt_eq.mpr q.2] at hj
      cases hj
    rw [cPut_oth (by omega) (by omega) (by omega) (by omega)]
    exact a2 j i hj h15
  · rw [hnP 16 (by omega) (by decide)]; exact b1
  · rw [hnP 17 (by omega) (by decide)]; exact b2
  · rw [hnP 18 (by omega) (by decide)]; exact b3
  · rw [hnP 19 (by omega) (by decide)]; exact b4
  · rw [hnP 23 (by omega) (by decide)]; exact b5
  · rw [hnP 24 (by omega) (by decide)]; exact b6
  · rw [hnP 25 (by omega) (by decide)]; exact b7
  · rw [hnP 27 (by omega) (by decide)]; exact b9
  · rw [hnP 28 (by omega) (by decide)]; exact b10
  · by_cases q : w = kids.length
    · rw [q, e1]
      unfold kid
      rw [List.getElem?_append_right (Nat.le_refl _), Nat.sub_self]
      rfl
    · rw [hnP (20 + w) (by omega) (by omega), a4 w hw2]
      unfold kid
      by_cases q2 : w < kids.length
      · rw [List.getElem?_append_left q2]
      · rw [List.getElem?_eq_none (by omega), List.getElem?_eq_none (by rw [List.length_append]; show kids.length + 1 ≤ w; omega)]
  · by_cases q : w < kids.length
    · rw [List.getElem?_append_left q] at hx
      have hxc : x ≠ c := fun e => hk (by rw [← e]; exact hin w x hx)
      obtain ⟨g1, g2⟩ := a5 w x hx
      rw [cPut_oth (by omega) (fun p => hxc p.2) (by omega) (by omega), cPut_oth (by omega) (by omega) (fun p => hxc p.2) (by omega)]
      exact ⟨g1, g2⟩
    · rw [List.getElem?_append_right (by omega)] at hx
      have hw3 : w - kids.length = 0 := by
        apply Classical.byContradiction
        intro q2
        rw [List.getElem?_eq_none (by show 1 ≤ _; omega)] at hx
        cases hx
      rw [hw3] at hx
      have hx : c = x := Option.some.inj hx
      subst hx
      rw [show w = kids.length by omega, hr]
      exact ⟨e2, e3⟩
  · rw [cPut_oth (by omega) (by omega) (by omega) (by omega)]
    exact a6
theorem nodM.zero {P : Nat} {κ f l : Int32} : nodM τ (mNew τ P κ f l) P κ f l P [] := by
  obtain ⟨a1, a2, a3, a4, a5, a6, a7, a8, a9, a10, a11, a12, a13⟩ := mNew_at (τ := τ) (P := P) (κ := κ) (f := f) (l := l)
  exact ⟨fun j i h1 _ h3 => mNew_old h1 h3, fun j i h h2 => mNew_oth h h2, ⟨a1, a2, a3, a8, a9, a10, a11, a12⟩, fun w c h => (by cases h), a13, rfl⟩
theorem nodM.add {P : Nat} {κ f l : Int32} {st st' : Nat} {kids : List Nat} (h : nodM τ τ' P κ f l st kids) {c : Nat} (hc : c ≠ P) (hk : c ∉ kids) : nodM τ (mUnd τ' P c st') P κ f l st' (kids ++ [c]) := by
  obtain ⟨a1, a2, ⟨b1, b2, b3, b5, b6, b7, b8, b9⟩, a5, a6, a7⟩ := h
  obtain ⟨e1, e2⟩ := mUnd_at (τ := τ') (p := P) (c := c) (s := st')
  have hin : ∀ w x, kids[w]? = some x → x ∈ kids := fun w x hx => List.mem_of_getElem? hx
  have hnP : ∀ j, j ≠ 161 → rd (mUnd τ' P c st') j P = rd τ' j P := fun j h1 => mUnd_oth (fun q => hc q.2.symm) (fun q => h1 q.1)
  refine ⟨fun j i h1 h2 h3 => ?_, fun j i hj h3 => ?_, ⟨?_, ?_, ?_, ?_, ?_, ?_, e2, ?_⟩, fun w x hx => ?_, ?_, a7⟩
  · have h2' : ¬ (i = c ∧ j = 159) := fun q => h2 ⟨List.mem_append.mpr (Or.inr (by rw [q.1]; exact List.mem_singleton.mpr rfl)), q.2⟩
    rw [mUnd_oth (fun q => h2' ⟨q.2, q.1⟩) (fun q => h1 q.2)]
    exact a1 j i h1 (fun q => h2 ⟨List.mem_append.mpr (Or.inl q.1), q.2⟩) h3
  · rw [mUnd_oth (by omega) (by omega)]
    exact a2 j i hj h3
  · rw [hnP 151 (by decide)]; exact b1
  · rw [hnP 152 (by decide)]; exact b2
  · rw [hnP 153 (by decide)]; exact b3
  · rw [hnP 158 (by decide)]; exact b5
  · rw [hnP 159 (by decide)]; exact b6
  · rw [hnP 160 (by decide)]; exact b7
  · rw [hnP 163 (by decide)]; exact b9
  · by_cases q : w < kids.length
    · rw [List.getElem?_append_left q] at hx
      have hxc : x ≠ c := fun e => hk (by rw [← e]; exact hin w x hx)
      rw [mUnd_oth (fun p => hxc p.2) (by omega)]
      exact a5 w x hx
    · rw [List.getElem?_append_right (by omega)] at hx
      have hw3 : w - kids.length = 0 := by
        apply Classical.byContradiction
        intro q2
        rw [List.getElem?_eq_none (by show 1 ≤ _; omega)] at hx
        cases hx
      rw [hw3] at hx
      have hx : c = x := Option.some.inj hx
      subst hx
      exact e1
  · rw [mUnd_oth (by omega) (by omega)]
    exact a6
end RD4
/-! the relation of parts -/
/-- what a part says, by its kind: the component's and the model's words for it -/
def whtR (κ : Nat) (σ τ : tvS) (p : Nat) (kids : List Nat) : Prop :=
  (κ = 0 ∨ κ = 2 ∨ κ = 3 ∨ κ = 19 ∨ κ = 20 → rd τ 157 p = rd σ 27 p) ∧ (κ = 5 → rd τ 157 p = i32 14) ∧ (κ = 6 → rd τ 157 p = i32 15) ∧ (8 ≤ κ → κ ≤ 15 → rd τ 157 p = i32 (opS κ)) ∧
  (κ = 16 → rd τ 158 p = rd σ 19 p) ∧ (κ = 4 → rd τ 158 p = rd σ 18 p) ∧ (κ = 3 ∨ κ = 17 → rd τ 158 p = rd σ 17 p) ∧
  (κ = 17 → ∃ f : Nat, f < 4101 ∧ rd σ 27 p = i32 f ∧ rd τ 157 p = rd σ 36 f ∧ rd σ 35 f = i32 p) ∧
  (κ ≠ 3 → rd τ 154 p = rd σ 20 p ∧ rd τ 155 p = rd σ 21 p ∧ rd τ 156 p = rd σ 22 p ∧ (∀ w, w < 3 → rd σ (20 + w) p = kid kids w)) ∧
  (κ = 3 → rd σ 20 p = kid kids 0 ∧ (∀ w c : Nat, kids[w]? = some c → rd σ 23 c = kid kids (w + 1)) ∧ ∃ g : Nat, rd τ 162 p = i32 g ∧ rd τ 163 p = i32 kids.length ∧ g + kids.length ≤ ix (rd τ 123 60) ∧ ∀ w c : Nat, kids[w]? = some c → rd τ 164 (g + w) = i32 c)
/-- what a part's kids have in scope besides -/
def scl (κ w : Nat) (σ : tvS) (p : Nat) : List Nat := if κ = 17 then [ix (rd σ 36 (ix (rd σ 27 p)))] else if κ = 19 ∧ w = 1 then [ix (rd σ 27 p)] else if κ = 20 ∧ w = 2 then [ix (rd σ 27 p) + 1, ix (rd σ 27 p)] else []
def chV (σ : tvS) (l : List Nat) (x : Int32) : Prop := chC σ l x ∧ ∀ v, v ∈ l → v < ix (rd σ 15 19)
/-- the fn at hand, by what is in scope -/
def ohl (σ : tvS) : List Nat → Int32
  | [] => i32 (-1)
  | v :: _ => rd σ 31 v
def ari (κ : Nat) : Nat := [0, 0, 0, 0, 2, 1, 1, 2, 2, 2, 2, 2, 2, 2, 2, 2, 2, 1, 3, 2, 3].getD κ 0
def ownR (κ : Nat) (σ : tvS) (p : Nat) (l : List Nat) : Prop := (κ = 19 → ix (rd σ 27 p) < ix (rd σ 15 19) ∧ rd σ 31 (ix (rd σ 27 p)) = ohl σ l) ∧ (κ = 20 → ix (rd σ 27 p) + 1 < ix (rd σ 15 19) ∧ rd σ 31 (ix (rd σ 27 p)) = ohl σ l ∧ rd σ 31 (ix (rd σ 27 p) + 1) = ohl σ l) ∧ (κ = 17 → ix (rd σ 36 (ix (rd σ 27 p))) < ix (rd σ 15 19) ∧ rd σ 31 (ix (rd σ 36 (ix (rd σ 27 p)))) = rd σ 27 p)
/-- numbers of variables are none below 0 -/
def nnR (κ : Nat) (σ : tvS) (p : Nat) : Prop := (κ = 2 ∨ κ = 19 ∨ κ = 20 → i32 (ix (rd σ 27 p) : Int) = rd σ 27 p) ∧ (κ = 17 → i32 (ix (rd σ 36 (ix (rd σ 27 p))) : Int) = rd σ 36 (ix (rd σ 27 p)))
/-- scopes of a part and of its kids -/
def scpR (κ : Nat) (σ τ : tvS) (S p : Nat) (kids : List Nat) : Prop := ∃ l, chV σ l (rd σ 28 p) ∧ chM τ S l (rd τ 160 p) ∧ (∀ w c : Nat, kids[w]? = some c → chV σ (scl κ w σ p ++ l) (rd σ 28 c)) ∧ ((κ = 2 → ix (rd σ 27 p) ∈ l) ∧ nnR κ σ p) ∧ ownR κ σ p l
/-- a call's parts stand apart: a sign between each two -/
def CMM (σ : tvS) (p : Nat) (kids : List Nat) : Prop := ∀ w c s' : Nat, kids[w]? = some c → rd σ 26 c = i32 s' → ∀ q, s' ≤ q → q ≤ c → ix (rd σ 17 p) + 2 + 2 * w ≤ ix (rd σ 17 q) ∧ ix (rd σ 18 q) + 1 + 2 * (kids.length - 1 - w) ≤ ix (rd σ 18 p)
/-- how many kids; what is called -/
def calR (κ : Nat) (σ : tvS) (p : Nat) (kids : List Nat) : Prop := (κ ≠ 3 → kids.length = ari κ) ∧ (κ = 3 → (kids ≠ [] ∧ CMM σ p kids) ∧ ∃ f a : Nat, rd σ 27 p = i32 f ∧ f < ix (rd σ 15 38) ∧ f ≤ 20 ∧ rd σ 44 f = i32 kids.length ∧ rd σ 46 f = i32 a ∧ a ≤ p)
/-- lexemes of calls are their own; the sign of a join lies within -/
def spC (κ : Nat) (σ : tvS) (p s a b : Nat) : Prop := (κ = 3 → a + 1 < b ∧ (∀ q, s ≤ q → q < p → a + 2 ≤ ix (rd σ 17 q) ∧ ix (rd σ 18 q) < b) ∧ ∀ q, q < s → ix (rd σ 18 q) < a) ∧ (κ = 16 → a ≤ ix (rd σ 19 p) ∧ ix (rd σ 19 p) ≤ b)
def prtR (m S : Nat) (σ τ : tvS) (p : Nat) : Prop := ∃ (κ s : Nat) (kids : List Nat), κ ≤ 20 ∧ rd σ 16 p = i32 κ ∧ rd τ 151 p = i32 (mKd κ) ∧ rd τ 152 p = rd σ 17 p ∧ rd τ 153 p = rd σ 18 p ∧ (∃ a b : Nat, rd σ 17 p = i32 a ∧ rd σ 18 p = i32 b ∧ a ≤ b ∧ b < m ∧ spC κ σ p s a b) ∧
  rd σ 26 p = i32 s ∧ rd τ 161 p = i32 s ∧ contK σ s kids p ∧ rd τ 159 p = rd σ 24 p ∧ scpR κ σ τ S p kids ∧
  (∀ w c : Nat, kids[w]? = some c → rd σ 24 c = i32 p ∧ rd σ 25 c = i32 (rol κ w)) ∧ whtR κ σ τ p kids ∧ calR κ σ p kids
