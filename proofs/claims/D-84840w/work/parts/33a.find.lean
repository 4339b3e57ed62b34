/-! TYPES OF THE MODEL: tables, find -/
section TYM
variable {L : Nat} {xs : Nat → Int32} {σ σ' : tvS}
def LNM (N : Nat) (r : Nat → Nat) (σ : tvS) : Prop := ∃ rk : Nat → Nat, ∀ x, x < N → r x < N ∧ ((rd σ 169 x = i32 (x : Int) ∧ r x = x) ∨ ∃ y, y < N ∧ y ≠ x ∧ rd σ 169 x = i32 (y : Int) ∧ r y = r x ∧ rk y < rk x)
theorem findm_up {N : Nat} {r rk : Nat → Nat} (h : ∀ x, x < N → r x < N ∧ ((rd σ 169 x = i32 (x : Int) ∧ r x = x) ∨ ∃ y, y < N ∧ y ≠ x ∧ rd σ 169 x = i32 (y : Int) ∧ r y = r x ∧ rk y < rk x))
    (hN : N ≤ 100000) (d : Nat) (x1 : Int32) (v3 v4 : Value) : ∀ (n x : Nat), rk x ≤ n → x < N →
    rn L xs (d + 1) 337 2 [.ref 123, .int x1, .int (i32 x), v3, v4] [] σ = rn L xs (d + 1) 337 22 [.ref 123, .int x1, .int (i32 (r x)), v3, v4] [] σ ∧ rd σ 169 (r x) = i32 (r x : Int) ∧ r (r x) = r x ∧ (r x ≠ x → rk (r x) < rk x) := by
  intro n
  induction n with
  | zero =>
    intro x hk hx
    rcases (h x hx).2 with ⟨a, b⟩ | ⟨y, _, _, _, _, e⟩
    · rw [e337_2, c_in (by omega) (by omega) (by omega), i32_ixn (by omega), a, c2_refl, b]
      exact ⟨rfl, a, b, fun q => absurd rfl q⟩
    · omega
  | succ n ih =>
    intro x hk hx
    rcases (h x hx).2 with ⟨a, b⟩ | ⟨y, hy, hne, a, b, e⟩
    · rw [e337_2, c_in (by omega) (by omega) (by omega), i32_ixn (by omega), a, c2_refl, b]
      exact ⟨rfl, a, b, fun q => absurd rfl q⟩
    · rw [e337_2, c_in (by omega) (by omega) (by omega), i32_ixn (by omega), a, c2_eq (by omega) (by omega) (by omega) (by omega), c_f (by omega), c_in (by omega) (by omega) (by omega)]
      obtain ⟨i1, i2, i3, i4⟩ := ih y (by omega) hy
      rw [← b]
      refine ⟨i1, i2, i3, fun q => ?_⟩
      by_cases p : r y = y
      · rw [p]; exact e
      · have := i4 p; omega
theorem findm_dn {N : Nat} {r : Nat → Nat} (hN : N ≤ 100000) (d : Nat) (v1 : Value) {R : Nat} (hR : R < N) (hRR : r R = R) : ∀ (n x : Nat) (σ : tvS) (rk : Nat → Nat) (v4 : Value), (∀ x, x < N → r x < N ∧ ((rd σ 169 x = i32 (x : Int) ∧ r x = x) ∨ ∃ y, y < N ∧ y ≠ x ∧ rd σ 169 x = i32 (y : Int) ∧ r y = r x ∧ rk y < rk x)) →
    (∀ x, x < N → r x = R → x ≠ R → rk R < rk x) → rk x ≤ n → x < N → r x = R →
    ∃ σ', rn L xs (d + 1) 337 24 [.ref 123, v1, .int (i32 R), .int (i32 x), v4] [] σ = some (.inl (some (.int (i32 R))), σ') ∧ LNM N r σ' ∧ frW [169] σ σ' := by
  intro n
  induction n with
  | zero =>
    intro x σ rk v4 h hk hn hx hr
    rcases (h x hx).2 with ⟨a, b⟩ | ⟨y, _, _, _, _, e⟩
    · have : x = R := b.symm.trans hr
      subst this
      rw [e337_24, c_in (by omega) (by omega) (by omega), i32_ixn (by omega), a, c2_refl, e337_55]
      exact ⟨σ, rfl, ⟨rk, h⟩, frW.refl⟩
    · omega
  | succ n ih =>
    intro x σ rk v4 h hk hn hx hr
    rcases (h x hx).2 with ⟨a, b⟩ | ⟨y, hy, hne, a, b, e⟩
    · have : x = R := b.symm.trans hr
      subst this
      rw [e337_24, c_in (by omega) (by omega) (by omega), i32_ixn (by omega), a, c2_refl, e337_55]
      exact ⟨σ, rfl, ⟨rk, h⟩, frW.refl⟩
    · rw [e337_24, c_in (by omega) (by omega) (by omega), i32_ixn (by omega), a, c2_eq (by omega) (by omega) (by omega) (by omega)]
      by_cases q : y = R
      · rw [c_t (by omega), e337_55]; exact ⟨σ, rfl, ⟨rk, h⟩, frW.refl⟩
      rw [c_f (by omega), c_in (by omega) (by omega) (by omega), c_in (by omega) (by omega) (by omega)]
      have hxR : x ≠ R := by
        intro q
        subst q
        by_cases p : y = x
        · rw [p] at e; omega
        · have := hk y hy (by rw [b, hr]) p
          omega
      obtain ⟨σ', i1, i2, i3⟩ := ih y (wr σ 169 x (i32 R)) rk (.int (i32 y)) (fun z hz => by
          refine ⟨(h z hz).1, ?_⟩
          by_cases p : z = x
          · subst p
            exact .inr ⟨R, hR, fun q => hxR q.symm, wr_self _ _ _ _, by rw [hRR, hr], hk z hz hr hxR⟩
          · rw [rdne (fun q => p q.2)]; exact (h z hz).2) hk (by omega) hy (by rw [b, hr])
      exact ⟨σ', i1, i2, (frW_wr rfl).trans i3⟩
theorem find_m {N : Nat} {r : Nat → Nat} (h : LNM N r σ) (hN : N ≤ 100000) {x : Nat} (hx : x < N) (d : Nat) (v2 v3 v4 : Value) :
    ∃ σ', rn L xs (d + 1) 337 0 [.ref 123, .int (i32 x), v2, v3, v4] [] σ = some (.inl (some (.int (i32 (r x)))), σ') ∧ LNM N r σ' ∧ frW [169] σ σ' := by
  obtain ⟨rk, h⟩ := h
  obtain ⟨a, b, c, e⟩ := findm_up (L := L) (xs := xs) h hN d (i32 x) v3 v4 (rk x) x (Nat.le_refl _) hx
  rw [e337_0, a, e337_22]
  exact findm_dn hN d _ (h x hx).1 c (rk x) x σ rk v4 h (fun z hz hr hne => by
    obtain ⟨_, _, _, f⟩ := findm_up (L := L) (xs := xs) h hN d (i32 x) v3 v4 (rk z) z (Nat.le_refl _) hz
    rw [hr] at f; exact f (fun q => hne q.symm)) (Nat.le_refl _) hx rfl
theorem LNM.link {N : Nat} {r : Nat → Nat} (h : LNM N r σ) {f g : Nat} (hf : r f = f) (hg : r g = g) (hn : f ≠ g) (hfN : f < N) (hgN : g < N) : LNM N (gUp r f g) (wr σ 169 f (i32 (g : Int))) := by
  obtain ⟨rk, h⟩ := h
  refine ⟨fun x => if r x = f then rk x + rk g + 1 else rk x, fun x hx => ⟨?_, ?_⟩⟩
  · unfold gUp; split
    · exact hgN
    · exact (h x hx).1
  · by_cases e : x = f
    · subst e
      refine .inr ⟨g, hgN, fun q => hn q.symm, wr_self _ _ _ _, ?_, ?_⟩
      · unfold gUp; rw [if_pos hf, hg, if_neg (fun q => hn q.symm)]
      · show (if r g = x then _ else _) < (if r x = x then _ else _)
        rw [hg, if_neg (fun q => hn q.symm), if_pos hf]; omega
    · rw [rdne (fun q => e q.2)]
      rcases (h x hx).2 with ⟨a, b⟩ | ⟨y, hy, hne, a, b, c⟩
      · refine .inl ⟨a, ?_⟩
        unfold gUp; rw [if_neg (fun q => e (b.symm.trans q)), b]
      · refine .inr ⟨y, hy, hne, a, gUp_sub b, ?_⟩
        show (if r y = f then _ else _) < (if r x = f then _ else _)
        rw [b]; split <;> omega
theorem LNM.fr {N : Nat} {r : Nat → Nat} (h : LNM N r σ) (g : ∀ i, rd σ' 169 i = rd σ 169 i) : LNM N r σ' := by
  obtain ⟨rk, h⟩ := h
  exact ⟨rk, fun x hx => by rw [g]; exact h x hx⟩
def TM (N : Nat) (G : tG) (r : Nat → Nat) (σ : tvS) : Prop :=
  rd σ 123 63 = i32 (N : Int) ∧ 0 < N ∧ N ≤ 100000 ∧ LNM N r σ ∧ (∀ x, N ≤ x → r x = x ∧ G.1 x = 0) ∧
  (∀ x, x < N → rd σ 166 x = i32 (G.1 x : Int) ∧ G.1 x ≤ 4 ∧ (2 ≤ G.1 x → rd σ 167 x = i32 (G.2.1 x : Int) ∧ G.2.1 x < N ∧ (G.1 x ≠ 3 → rd σ 168 x = i32 (G.2.2 x : Int) ∧ G.2.2 x < N))) ∧
  (∀ x, G.1 x = 1 ↔ x = 0)
/-- frames of the model's: arrays, and fields of its object -/
def frM (S F : List Nat) (σ σ' : tvS) : Prop := frW (123 :: S) σ σ' ∧ ∀ i, inL F i = false → rd σ' 123 i = rd σ 123 i
theorem frM.refl {S F : List Nat} : frM S F σ σ := ⟨frW.refl, fun _ _ => rfl⟩
theorem frM.trans {S F : List Nat} {a b e : tvS} (h : frM S F a b) (g : frM S F b e) : frM S F a e := ⟨h.1.trans g.1, fun i hi => (g.2 i hi).trans (h.2 i hi)⟩
theorem frM.sub {S F S' F' : List Nat} {a b : tvS} (h : frM S F a b) (hs : (S.all fun k => inL S' k) = true) (hf : (F.all fun k => inL F' k) = true) : frM S' F' a b :=
  ⟨h.1.mono (fun k hk => by
    have hk : (Nat.beq k 123 || inL S' k) = false := hk
    show (Nat.beq k 123 || inL S k) = false
    rw [Bool.or_eq_false_iff] at hk ⊢
    exact ⟨hk.1, inL_sub hs k hk.2⟩), fun i hi => h.2 i (inL_sub hf i hi)⟩
theorem frW.M {S : List Nat} (F : List Nat) (h : frW S σ σ') (h0 : inL S 123 = false) : frM S F σ σ' :=
  ⟨h.mono (fun k hk => by
    have hk : (Nat.beq k 123 || inL S k) = false := hk
    rw [Bool.or_eq_false_iff] at hk
    exact hk.2), fun i _ => h.1 123 h0 i⟩
theorem frM_wr {S F : List Nat} {k i : Nat} {x : Int32} (h : inL S k = true) (h' : k ≠ 123) : frM S F σ (wr σ k i x) :=
  ⟨frW_wr (by show (Nat.beq k 123 || inL S k) = true; rw [h, Bool.or_true]), fun j _ => wr_nek (fun q => h' q.symm)⟩
theorem frM_w {S F : List Nat} {i : Nat} {x : Int32} (h : inL F i = true) : frM S F σ (wr σ 123 i x) :=
  ⟨frW_wr rfl, fun j hj => wr_nei (fun q => by rw [q, h] at hj; cases hj)⟩
theorem frM.rd {S F : List Nat} (h : frM S F σ σ') {j : Nat} (hj : inL (123 :: S) j = false) (i : Nat) : rd σ' j i = rd σ j i := h.1.1 j hj i
theorem TM.M {N : Nat} {G : tG} {r : Nat → Nat} {S F : List Nat} (h : TM N G r σ) (g : frM S F σ σ') (hF : inL F 63 = false) (hS : inL S 166 = false ∧ inL S 167 = false ∧ inL S 168 = false) {r' : Nat → Nat} (hr : LNM N r' σ') (ho : ∀ x, N ≤ x → r' x = x) : TM N G r' σ' := by
  obtain ⟨a1, a2, a3, a5, a6, a7, a8⟩ := h
  refine ⟨by rw [g.2 63 hF]; exact a1, a2, a3, hr, fun x hx => ⟨ho x hx, (a6 x hx).2⟩, fun x hx => ?_, a8⟩
  obtain ⟨b1, b2, b3⟩ := a7 x hx
  rw [g.rd (j := 166) hS.1, g.rd (j := 167) hS.2.1, g.rd (j := 168) hS.2.2]
  exact ⟨b1, b2, b3⟩
theorem TM.fr {N : Nat} {G : tG} {r : Nat → Nat} {S F : List Nat} (h : TM N G r σ) (g : frM S F σ σ') (hF : inL F 63 = false) (hS : inL S 166 = false ∧ inL S 167 = false ∧ inL S 168 = false ∧ inL S 169 = false) : TM N G r σ' :=
  h.M g hF ⟨hS.1, hS.2.1, hS.2.2.1⟩ (h.2.2.2.1.fr (fun i => g.rd (j := 169) hS.2.2.2 i)) (fun x hx => (h.2.2.2.2.1 x hx).1)
theorem find_M {N : Nat} {G : tG} {r : Nat → Nat} (h : TM N G r σ) {x : Nat} (hx : x < N) (d : Nat) (v2 v3 v4 : Value) :
    ∃ σ', rn L xs (d + 1) 337 0 [.ref 123, .int (i32 x), v2, v3, v4] [] σ = some (.inl (some (.int (i32 (r x)))), σ') ∧ TM N G r σ' ∧ frM [169] [] σ σ' := by
  obtain ⟨σ', a, b, c⟩ := find_m (L := L) (xs := xs) h.2.2.2.1 h.2.2.1 hx d v2 v3 v4
  exact ⟨σ', a, h.M (c.M [] rfl) rfl ⟨rfl, rfl, rfl⟩ b (fun x hx => (h.2.2.2.2.1 x hx).1), c.M [] rfl⟩
theorem TM.rlt {N : Nat} {G : tG} {r : Nat → Nat} (h : TM N G r σ) {x : Nat} (hx : x < N) : r x < N := by
  obtain ⟨rk, h⟩ := h.2.2.2.1
  exact (h x hx).1
theorem TM.rr {N : Nat} {G : tG} {r : Nat → Nat} (h : TM N G r σ) {x : Nat} (hx : x < N) : r (r x) = r x := by
  obtain ⟨rk, g⟩ := h.2.2.2.1
  exact (findm_up (L := 0) (xs := fun _ => 0) g h.2.2.1 0 (i32 x) .null .null (rk x) x (Nat.le_refl _) hx).2.2.1
/-- chains of what is held -/
def chW (σ : tvS) : List Nat → Int32 → Prop
  | [], x => x = i32 (-1)
  | i :: r, x => x = i32 (i : Int) ∧ chW σ r (rd σ 175 i)
theorem chW.congr : ∀ {l : List Nat} {x : Int32}, chW σ l x → (∀ i, i ∈ l → rd σ' 175 i = rd σ 175 i) → chW σ' l x := by
  intro l
  induction l with
  | nil => intro x h _; exact h
  | cons i r ih =>
    intro x h g
    refine ⟨h.1, ?_⟩
    rw [g i List.mem_cons_self]
    exact ih h.2 (fun j hj => g j (List.mem_cons_of_mem _ hj))
def HM (N : Nat) (r : Nat → Nat) (hl : Nat → List Nat) (hv : Nat → Nat) (H : Nat) (σ : tvS) : Prop :=
  rd σ 123 73 = i32 (H : Int) ∧ H ≤ 250000 ∧ (∀ i, i < H → rd σ 174 i = i32 (hv i : Int) ∧ hv i < N) ∧
  (∀ t, t < N → r t = t → chW σ (hl t) (rd σ 170 t) ∧ (hl t).Nodup ∧ (∀ i, i ∈ hl t → i < H)) ∧
  (∀ t t' i, t < N → t' < N → r t = t → r t' = t' → i ∈ hl t → i ∈ hl t' → t = t')
theorem HM.fr {N : Nat} {r : Nat → Nat} {hl : Nat → List Nat} {hv : Nat → Nat} {H : Nat} {S F : List Nat} (h : HM N r hl hv H σ) (g : frM S F σ σ') (hF : inL F 73 = false) (hS : inL S 170 = false ∧ inL S 174 = false ∧ inL S 175 = false) : HM N r hl hv H σ' := by
  obtain ⟨a1, a2, a4, a5, a6⟩ := h
  refine ⟨by rw [g.2 73 hF]; exact a1, a2, fun i hi => by rw [g.rd (j := 174) hS.2.1]; exact a4 i hi, fun t ht hr => ?_, a6⟩
  obtain ⟨b1, b2, b3⟩ := a5 t ht hr
  rw [g.rd (j := 170) hS.1]
  exact ⟨b1.congr (fun i _ => g.rd (j := 175) hS.2.2 i), b2, b3⟩
/-- marks of what is held -/
def MH (N S : Nat) (σ : tvS) : Prop := rd σ 123 84 = i32 (S : Int) ∧ ∀ x, x < N → ∃ s : Nat, s ≤ S ∧ rd σ 183 x = i32 (s : Int)
theorem MH.fr {N S : Nat} {S' F : List Nat} (h : MH N S σ) (g : frM S' F σ σ') (hF : inL F 84 = false) (hS : inL S' 183 = false) : MH N S σ' :=
  ⟨by rw [g.2 84 hF]; exact h.1, fun x hx => by rw [g.rd (j := 183) hS]; exact h.2 x hx⟩
/-- marks of what is met -/
def MT (N S : Nat) (σ : tvS) : Prop := rd σ 123 72 = i32 (S : Int) ∧ ∀ x, x < N → (∃ s : Nat, s ≤ S ∧ rd σ 171 x = i32 (s : Int)) ∧ (∃ s : Nat, s ≤ S ∧ rd σ 172 x = i32 (s : Int))
theorem MT.fr {N S : Nat} {S' F : List Nat} (h : MT N S σ) (g : frM S' F σ σ') (hF : inL F 72 = false) (hS : inL S' 171 = false ∧ inL S' 172 = false) : MT N S σ' :=
  ⟨by rw [g.2 72 hF]; exact h.1, fun x hx => by rw [g.rd (j := 171) hS.1, g.rd (j := 172) hS.2]; exact h.2 x hx⟩
end TYM
