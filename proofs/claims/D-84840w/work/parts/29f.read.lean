/-! READING: the state of both -/
/-- room of the component: for faults, and for what it captures -/
def pw2 (l : Nat) : Prop := l = 1024 ∨ l = 2048 ∨ l = 4096 ∨ l = 8192 ∨ l = 16384 ∨ l = 32768 ∨ l = 65536
def roomC (K1 K2 : Nat) (σ : tvS) : Prop := ln σ 41 = ln σ 40 ∧ pw2 (ln σ 40) ∧ K1 + 2 * (64 - ln σ 40 / 1024) + 10 ≤ (rm σ).2.1 ∧ K2 + 2 * (131072 - 2 * ln σ 40) + 100 ≤ (rm σ).2.2
/-- chains of captured variables -/
def capL (σ : tvS) : List (Nat × Nat) → Int32 → Prop
  | [], x => x = i32 (-1)
  | (c, v) :: r, x => x = i32 c ∧ rd σ 40 c = i32 v ∧ capL σ r (rd σ 41 c)
def sumC (cp : Nat → List (Nat × Nat)) : Nat → Nat
  | 0 => 0
  | f + 1 => sumC cp f + (cp f).length
/-- what fns capture: of each a chain, all in different places, below the count -/
def CAPS (F C : Nat) (cp : Nat → List (Nat × Nat)) (σ : tvS) : Prop := rd σ 15 29 = i32 C ∧ C ≤ ln σ 40 ∧ C ≤ sumC cp F ∧
  (∀ f, f < F → capL σ (cp f) (rd σ 37 f) ∧ rd σ 38 f = (match (cp f).getLast? with | some q => i32 q.1 | none => i32 (-1)) ∧ rd σ 39 f = i32 (cp f).length ∧ (cp f).length ≤ 40 ∧ (∀ q, q ∈ cp f → q.1 < C) ∧ ((cp f).map Prod.fst).Nodup ∧ ((cp f).map Prod.snd).Nodup) ∧
  (∀ f g q q', f < F → g < F → q ∈ cp f → q' ∈ cp g → q.1 = q'.1 → f = g)
def ach (f : Nat → Nat) (A : Nat) : Nat := match A with | 0 => 0 | A + 1 => cond (ast (f (A + 1)) && aen (f A)) 1 0
theorem wch_succ (f : Nat → Nat) (A : Nat) : wch f (A + 1) = wch f A + uch (f A) + ach f A := by
  cases A with
  | zero => show uch (f 0) = 0 + uch (f 0) + 0; omega
  | succ A => rfl
section RD5
variable {L : Nat} {xs : Nat → Int32} {m V S : Nat} {sc : List Nat} {σ τ σ' τ' : tvS}
theorem roomC.xn {K1 K2 : Nat} (h : roomC K1 K2 σ) : xnOK σ = true := by
  obtain ⟨h1, h2, h4, h5⟩ := h
  unfold xnOK
  rw [Bool.and_eq_true]
  exact ⟨Nat.ble_eq_true_of_le (by omega), Nat.ble_eq_true_of_le (by omega)⟩
/-! old parts stay as they are -/
theorem contK.congr : ∀ (l : List Nat) (s p : Nat), contK σ s l p → (∀ i, i < p → rd σ' 26 i = rd σ 26 i) → contK σ' s l p := by
  intro l
  induction l with
  | nil => intro s p h _; exact h
  | cons c r ih =>
    intro s p h hc
    obtain ⟨h1, h2, h3, h4⟩ := h
    exact ⟨by rw [hc c h3]; exact h1, h2, h3, ih _ _ h4 hc⟩
theorem contK.mem : ∀ (l : List Nat) (s p : Nat), contK σ s l p → ∀ c, c ∈ l → s ≤ c ∧ c < p := by
  intro l
  induction l with
  | nil => intro s p _ c hc; cases hc
  | cons a r ih =>
    intro s p h c hc
    obtain ⟨h1, h2, h3, h4⟩ := h
    cases hc with
    | head => exact ⟨h2, h3⟩
    | tail _ hc => have := ih _ _ h4 c hc; omega
theorem prtR.stay {S' p : Nat} (h : prtR m S σ τ p) (hp : p < 4101)
    (c1 : ∀ j i, i ≤ p → 16 ≤ j → j ≤ 28 → j ≠ 23 → j ≠ 24 → j ≠ 25 → rd σ' j i = rd σ j i)
    (c2 : ∀ j i, i ≤ p → rd σ 24 i ≠ i32 (-1) → j = 23 ∨ j = 24 ∨ j = 25 → rd σ' j i = rd σ j i)
    (c3 : rd τ 159 p = rd σ 24 p → rd τ' 159 p = rd σ' 24 p)
    (c4 : rd σ 16 p = i32 17 → ∀ f : Nat, f < 4101 → rd σ 27 p = i32 f → rd σ 35 f = i32 p → rd σ' 35 f = rd σ 35 f ∧ rd σ' 36 f = rd σ 36 f)
    (c5 : ∀ l x, chV σ l x → chV σ' l x) (c6 : ∀ v, v < ix (rd σ 15 19) → rd σ' 31 v = rd σ 31 v) (c7 : rd σ 16 p = i32 3 → ∀ f : Nat, f < ix (rd σ 15 38) → rd σ 27 p = i32 f → rd σ' 44 f = rd σ 44 f ∧ rd σ' 46 f = rd σ 46 f) (c8 : ix (rd σ 15 38) ≤ ix (rd σ' 15 38)) (c9 : ix (rd σ 15 19) ≤ ix (rd σ' 15 19)) (m5 : ∀ l x, chM τ S l x → chM τ' S' l x)
    (m1 : ∀ j, 151 ≤ j → j ≤ 163 → j ≠ 159 → rd τ' j p = rd τ j p) (m2 : ∀ i : Nat, i < ix (rd τ 123 60) → rd τ' 164 i = rd τ 164 i) (m3 : ix (rd τ 123 60) ≤ ix (rd τ' 123 60)) : prtR m S' σ' τ' p := by
  obtain ⟨κ, s, kids, a1, a2, a3, a4, a5, ⟨x, y, a6, a7, a8, a9, z1, z2⟩, a10, a11, a12, a13, ⟨l, a14, a15, q1, q2, q3, q4, q5⟩, a16, ⟨w1, w2, w3, w4, w5, w6, w7, w8, w9, w10⟩, k1, k2⟩ := h
  have hk : ∀ w c : Nat, kids[w]? = some c → c ≤ p ∧ rd σ 24 c ≠ i32 (-1) := fun w c hw => by
    have h1 := (a16 w c hw).1
    have h2 := (contK.mem kids s p a12 c (List.mem_of_getElem? hw)).2
    refine ⟨by omega, fun e => ?_⟩
    rw [h1] at e
    have := (i32_inj (by omega) (by omega) (by omega) (by omega)).mp e
    omega
  have r := fun j h1 h2 h3 h4 h5 => c1 j p (Nat.le_refl p) h1 h2 h3 h4 h5
  have e27 : rd σ' 27 p = rd σ 27 p := r 27 (by omega) (by omega) (by omega) (by omega) (by omega)
  have e36 : κ = 17 → rd σ' 36 (ix (rd σ 27 p)) = rd σ 36 (ix (rd σ 27 p)) := fun e => by
    obtain ⟨f, b1, b2, b3, b4⟩ := w8 e
    rw [b2, i32_ixn (by omega)]
    exact (c4 (by rw [a2, e]; rfl) f b1 b2 b4).2
  have hs : ∀ w, scl κ w σ' p = scl κ w σ p := fun w => by
    unfold scl
    rw [e27]
    by_cases e : κ = 17
    · rw [e36 e]
    · rw [if_neg e, if_neg e]
  have ho : ohl σ' l = ohl σ l := by
    cases l with
    | nil => rfl
    | cons v t => exact c6 v (a14.2 v List.mem_cons_self)
  refine ⟨κ, s, kids, a1, by rw [r 16 (by omega) (by omega) (by omega) (by omega) (by omega)]; exact a2, by rw [m1 151 (by omega) (by omega) (by omega)]; exact a3, by rw [m1 152 (by omega) (by omega) (by omega), r 17 (by omega) (by omega) (by omega) (by omega) (by omega)]; exact a4, by rw [m1 153 (by omega) (by omega) (by omega), r 18 (by omega) (by omega) (by omega) (by omega) (by omega)]; exact a5,
    ⟨x, y, by rw [r 17 (by omega) (by omega) (by omega) (by omega) (by omega)]; exact a6, by rw [r 18 (by omega) (by omega) (by omega) (by omega) (by omega)]; exact a7, a8, a9, ⟨fun e => ?_, fun e => ?_⟩⟩, by rw [r 26 (by omega) (by omega) (by omega) (by omega) (by omega)]; exact a10, by rw [m1 161 (by omega) (by omega) (by omega)]; exact a11,
    a12.congr _ _ _ (fun i hi => c1 26 i (by omega) (by omega) (by omega) (by omega) (by omega) (by omega)), c3 a13, ⟨l, by rw [r 28 (by omega) (by omega) (by omega) (by omega) (by omega)]; exact c5 l _ a14, by rw [m1 160 (by omega) (by omega) (by omega)]; exact m5 l _ a15, fun w c hw => ?_, ⟨by rw [e27]; exact q2.1, fun e => by rw [e27]; exact q2.2.1 e, fun e => by rw [e27, e36 e]; exact q2.2.2 e⟩, ?_, ?_, ?_⟩, fun w c hw => ?_, ⟨?_, ?_, ?_, ?_, ?_, ?_, ?_, ?_, ?_, ?_⟩, k1, ?_⟩
  · obtain ⟨t1, t2, t3⟩ := z1 e
    have hsp : s ≤ p := by
      cases kids with
      | nil => exact Nat.le_of_eq a12
      | cons c r => have := contK.mem _ s p a12 c List.mem_cons_self; omega
    refine ⟨t1, fun q h1 h2 => ?_, fun q h1 => ?_⟩
    · rw [c1 17 q (by omega) (by omega) (by omega) (by omega) (by omega) (by omega), c1 18 q (by omega) (by omega) (by omega) (by omega) (by omega) (by omega)]; exact t2 q h1 h2
    · rw [c1 18 q (by omega) (by omega) (by omega) (by omega) (by omega) (by omega)]; exact t3 q h1
  · rw [r 19 (by omega) (by omega) (by omega) (by omega) (by omega)]; exact z2 e
  · rw [hs, c1 28 c (hk w c hw).1 (by omega) (by omega) (by omega) (by omega) (by omega)]
    exact c5 _ _ (q1 w c hw)
  · intro e
    obtain ⟨b1, b2⟩ := q3 e
    rw [e27, ho, c6 _ b1]
    exact ⟨by omega, b2⟩
  · intro e
    obtain ⟨b1, b2, b3⟩ := q4 e
    rw [e27, ho, c6 _ b1, c6 _ (by omega)]
    exact ⟨by omega, b2, b3⟩
  · intro e
    obtain ⟨b1, b2⟩ := q5 e
    rw [e27, e36 e, c6 _ b1]
    exact ⟨by omega, b2⟩
  · obtain ⟨h1, h2⟩ := hk w c hw
    rw [c2 24 c h1 h2 (by omega), c2 25 c h1 h2 (by omega)]
    exact a16 w c hw
  · rw [m1 157 (by omega) (by omega) (by omega), r 27 (by omega) (by omega) (by omega) (by omega) (by omega)]; exact w1
  · rw [m1 157 (by omega) (by omega) (by omega)]; exact w2
  · rw [m1 157 (by omega) (by omega) (by omega)]; exact w3
  · rw [m1 157 (by omega) (by omega) (by omega)]; exact w4
  · rw [m1 158 (by omega) (by omega) (by omega), r 19 (by omega) (by omega) (by omega) (by omega) (by omega)]; exact w5
  · rw [m1 158 (by omega) (by omega) (by omega), r 18 (by omega) (by omega) (by omega) (by omega) (by omega)]; exact w6
  · rw [m1 158 (by omega) (by omega) (by omega), r 17 (by omega) (by omega) (by omega) (by omega) (by omega)]; exact w7
  · intro e
    obtain ⟨f, b1, b2, b3, b4⟩ := w8 e
    obtain ⟨d1, d2⟩ := c4 (by rw [a2, e]; rfl) f b1 b2 b4
    refine ⟨f, b1, by rw [r 27 (by omega) (by omega) (by omega) (by omega) (by omega)]; exact b2, by rw [m1 157 (by omega) (by omega) (by omega), d2]; exact b3, by rw [d1]; exact b4⟩
  · intro e
    obtain ⟨b1, b2, b3, b4⟩ := w9 e
    rw [m1 154 (by omega) (by omega) (by omega), m1 155 (by omega) (by omega) (by omega), m1 156 (by omega) (by omega) (by omega), r 20 (by omega) (by omega) (by omega) (by omega) (by omega), r 21 (by omega) (by omega) (by omega) (by omega) (by omega), r 22 (by omega) (by omega) (by omega) (by omega) (by omega)]
    exact ⟨b1, b2, b3, fun w hw => by rw [r (20 + w) (by omega) (by omega) (by omega) (by omega) (by omega)]; exact b4 w hw⟩
  · intro e
    obtain ⟨b1, b2, g, b3, b4, b5, b6⟩ := w10 e
    refine ⟨by rw [r 20 (by omega) (by omega) (by omega) (by omega) (by omega)]; exact b1, fun w c hw => ?_, g, by rw [m1 162 (by omega) (by omega) (by omega)]; exact b3, by rw [m1 163 (by omega) (by omega) (by omega)]; exact b4, by omega, fun w c hw => ?_⟩
    · obtain ⟨h1, h2⟩ := hk w c hw
      rw [c2 23 c h1 h2 (by omega)]
      exact b2 w c hw
    · have hl : w < kids.length := by
        apply Classical.byContradiction
        intro q
        rw [List.getElem?_eq_none (by omega)] at hw
        cases hw
      rw [m2 (g + w) (by omega)]
      exact b6 w c hw
  · intro e
    obtain ⟨⟨b0, b0'⟩, f, a, b1, b2, b3, b4, b5, b6⟩ := k2 e
    obtain ⟨d1, d2⟩ := c7 (by rw [a2, e]; rfl) f b2 b1
    refine ⟨⟨b0, fun w c s' hw hs' q h1 h2 => ?_⟩, f, a, by rw [e27]; exact b1, by omega, b3, by rw [d1]; exact b4, by rw [d2]; exact b5, b6⟩
    have hcp := (hk w c hw).1
    rw [c1 26 c hcp (by omega) (by omega) (by omega) (by omega) (by omega)] at hs'
    rw [r 17 (by omega) (by omega) (by omega) (by omega) (by omega), r 18 (by omega) (by omega) (by omega) (by omega) (by omega), c1 17 q (by omega) (by omega) (by omega) (by omega) (by omega) (by omega), c1 18 q (by omega) (by omega) (by omega) (by omega) (by omega) (by omega)]
    exact b0' w c s' hw hs' q h1 h2
theorem prtR.mono {m' p : Nat} (h : prtR m S σ τ p) (hm : m ≤ m') : prtR m' S σ τ p := by
  obtain ⟨κ, s, kids, a1, a2, a3, a4, a5, ⟨x, y, a6, a7, a8, a9, z⟩, a10⟩ := h
  exact ⟨κ, s, kids, a1, a2, a3, a4, a5, ⟨x, y, a6, a7, a8, by omega, z⟩, a10⟩
theorem chV.congr {l : List Nat} {x : Int32} (h : chV σ l x) (hV : ix (rd σ 15 19) ≤ ix (rd σ' 15 19)) (h1 : ∀ v, v < ix (rd σ 15 19) → rd σ' 33 v = rd σ 33 v ∧ rd σ' 32 v = rd σ 32 v) : chV σ' l x :=
  ⟨h.1.congr _ _ (fun v hv => h1 v (h.2 v hv)), fun v hv => Nat.lt_of_lt_of_le (h.2 v hv) hV⟩
end RD5
