/-! TYPES OF THE COMPONENT: what a type is of -/
section RND
variable {L : Nat} {xs : Nat → Int32} {σ σ' : tvS}
/-- what a boxed type is of, the second one first -/
def kids (G : tG) (t : Nat) : List Nat := if G.1 t = 3 then [G.2.1 t] else [G.2.2 t, G.2.1 t]
def ints (l : List Nat) : List Int := l.map (fun n : Nat => (n : Int))
theorem kids_len {G : tG} {t : Nat} : (kids G t).length ≤ 2 := by
  unfold kids
  split
  · exact (by decide : 1 ≤ 2)
  · exact Nat.le_refl 2
theorem parts_c {K1 K2 N : Nat} {G : tG} {r : Nat → Nat} {W : List Int} {t : Nat} (hT : TC N G r σ) (hR : ROOM K1 K2 σ) (hW : WK W σ) (hl : W.length + 2 < 524288) (ht : t < N) (hk : 2 ≤ G.1 t) (d : Nat) :
    ∃ σ', rn L xs (d + 2) 97 0 [.ref 50, .int (i32 t)] [] σ = some (.inl none, σ') ∧ WK (ints (kids G t) ++ W) σ' ∧ ROOM K1 K2 σ' ∧ frT [61] [61] [14] σ σ' := by
  have hN := hT.lt hR
  obtain ⟨a1, a2, a3, a4, a5, a6, a7, a8⟩ := id hT
  obtain ⟨b1, b2, b3⟩ := a7 t ht
  obtain ⟨b4, b5, b6⟩ := b3 hk
  have l51 : N ≤ ln σ 51 ∧ ln σ 51 ≤ 1000000 := ⟨a3, Nat.le_trans (hR.le (k := 51) (M := 122880) (by decide)) (by omega)⟩
  have l53 := a4 53 (by omega) (by omega)
  have l54 := a4 54 (by omega) (by omega)
  rw [e97_0 (d + 1), c_in (by omega) (by omega) (by omega), i32_ixn (by omega), b1, show (2 : Int32) = i32 2 from rfl, c2_lt (by omega) (by omega) (by omega) (by omega), c_f (by omega), c_in (by omega) (by omega) (by omega), b4]
  obtain ⟨s1, p1, q1, R1, w1⟩ := push_T (L := L) (xs := xs) hR hW (by omega) (G.2.1 t : Int) d
  have n51 := (w1.1.2.2 51 rfl).1
  have n54 := (w1.1.2.2 54 rfl).1
  rw [bV_ok p1, e97_20 (d + 1), n51, c_in (by omega) (by omega) (by omega), i32_ixn (by omega), w1.rd (j := 51) rfl, b1, show (2 : Int32) = i32 2 from rfl, c2_eq (by omega) (by omega) (by omega) (by omega)]
  by_cases h3 : G.1 t = 3
  · rw [c_f (by omega), c_in (by omega) (by omega) (by omega), show (4 : Int32) = i32 4 from rfl, c2_ne (by omega) (by omega) (by omega) (by omega), c_t (by omega), e97_50]
    refine ⟨s1, rfl, ?_, R1, w1⟩
    unfold kids; rw [if_pos h3]; exact q1
  · obtain ⟨b7, b8⟩ := b6 h3
    have go : ∀ X : Option Unit, rn L xs (d + 2) 97 40 [.ref 50, .int (i32 t)] [] s1 = bV (rn L xs (d + 1) 85 0 [.ref 50, .int (i32 (G.2.2 t : Int))] [] s1) (fun s2 => rn L xs (d + 2) 97 50 [.ref 50, .int (i32 t)] [] s2) X0 := by
      intro _
      rw [e97_40 (d + 1), n54, c_in (by omega) (by omega) (by omega), i32_ixn (by omega), w1.rd (j := 54) rfl, b7]
    obtain ⟨s2, p2, q2, R2, w2⟩ := push_T (L := L) (xs := xs) R1 q1 (by show W.length + 1 < _; omega) (G.2.2 t : Int) d
    have fin : rn L xs (d + 2) 97 40 [.ref 50, .int (i32 t)] [] s1 = some (.inl none, s2) := by rw [go none, bV_ok p2, e97_50]
    refine ⟨s2, ?_, ?_, R2, w1.trans w2⟩
    · by_cases h2 : G.1 t = 2
      · rw [c_t (by omega), fin]
      · rw [c_f (by omega), c_in (by omega) (by omega) (by omega), show (4 : Int32) = i32 4 from rfl, c2_ne (by omega) (by omega) (by omega) (by omega), c_f (by omega), fin]
    · unfold kids; rw [if_neg h3]; exact q2
/-! stamps -/
def STP (N S : Nat) (σ : tvS) : Prop := rd σ 50 12 = i32 (S : Int) ∧ ∀ x, x < N → ∃ s : Nat, s ≤ S ∧ rd σ 57 x = i32 (s : Int)
theorem STP.T {N S : Nat} {S' T F : List Nat} (h : STP N S σ) (g : frT S' T F σ σ') (hF : inL F 12 = false) (hS : inL S' 57 = false) : STP N S σ' :=
  ⟨by rw [g.2 12 hF]; exact h.1, fun x hx => by rw [g.rd (j := 57) hS]; exact h.2 x hx⟩
/-! is there a ring? -/
/-- what is ahead: closed, or to come -/
def rP (G : tG) (r : Nat → Nat) (Q : Nat → Prop) (A : List Int) (y : Nat) : Prop := G.1 (r y) < 2 ∨ Q (r y) ∨ (∃ e : Nat, (e : Int) ∈ A ∧ r e = r y) ∨ (-1 - ((r y : Nat) : Int)) ∈ A
/-- each mark in the row: what it is of is closed or lies above -/
def rK (G : tG) (r : Nat → Nat) (Q : Nat → Prop) : List Int → List Int → Prop
  | _, [] => True
  | A, e :: W => (∀ t : Nat, e = -1 - (t : Int) → ∀ y, y ∈ kids G t → rP G r Q A y) ∧ rK G r Q (e :: A) W
theorem rP.mono {G : tG} {r : Nat → Nat} {Q Q' : Nat → Prop} {A A' : List Int} (h : ∀ y, rP G r Q A y → rP G r Q' A' y) (e : Int) (y : Nat) (q : rP G r Q (e :: A) y) : rP G r Q' (e :: A') y := by
  have up : rP G r Q' A' y → rP G r Q' (e :: A') y := by
    rintro (a | a | ⟨u, a, b⟩ | a)
    · exact .inl a
    · exact .inr (.inl a)
    · exact .inr (.inr (.inl ⟨u, List.mem_cons_of_mem _ a, b⟩))
    · exact .inr (.inr (.inr (List.mem_cons_of_mem _ a)))
  rcases q with a | a | ⟨u, a, b⟩ | a
  · exact up (h y (.inl a))
  · exact up (h y (.inr (.inl a)))
  · rcases List.mem_cons.mp a with c | c
    · exact .inr (.inr (.inl ⟨u, by rw [c]; exact List.mem_cons_self, b⟩))
    · exact up (h y (.inr (.inr (.inl ⟨u, c, b⟩))))
  · rcases List.mem_cons.mp a with c | c
    · exact .inr (.inr (.inr (by rw [c]; exact List.mem_cons_self)))
    · exact up (h y (.inr (.inr (.inr c))))
theorem rK.mono {G : tG} {r : Nat → Nat} {Q Q' : Nat → Prop} : ∀ {W A A' : List Int}, (∀ y, rP G r Q A y → rP G r Q' A' y) → rK G r Q A W → rK G r Q' A' W := by
  intro W
  induction W with
  | nil => intro A A' _ _; exact trivial
  | cons e W ih => intro A A' h g; exact ⟨fun t ht y hy => h y (g.1 t ht y hy), ih (rP.mono h e) g.2⟩
/-- how deep: whatever lies above a mark is less deep -/
def rD (dd : Nat → Nat) : List Int → Prop
  | [] => True
  | e :: W => (∀ m : Nat, (-1 - (m : Int)) ∈ W → (∀ n : Nat, e = n → dd n < dd m) ∧ (∀ n : Nat, e = -1 - (n : Int) → dd n < dd m)) ∧ rD dd W
def rN : List Int → Prop
  | [] => True
  | e :: W => (e < 0 → e ∉ W) ∧ rN W
/-- closed ones, and how deep they are -/
def rC (N : Nat) (G : tG) (r : Nat → Nat) (Q : Nat → Prop) (dd : Nat → Nat) (c : Nat) : Prop :=
  ∀ t, Q t → t < N ∧ 2 ≤ G.1 t ∧ r t = t ∧ 0 < dd t ∧ dd t ≤ c ∧ ∀ y, y ∈ kids G t → G.1 (r y) < 2 ∨ (Q (r y) ∧ dd (r y) < dd t)
def dOK (G : tG) (r : Nat → Nat) (dd : Nat → Nat) : Prop := (∀ x y, r x = r y → dd x = dd y) ∧ ∀ x, 2 ≤ G.1 x → dd (G.2.1 x) < dd x ∧ (G.1 x ≠ 3 → dd (G.2.2 x) < dd x)
theorem dOK.kid {G : tG} {r : Nat → Nat} {dd : Nat → Nat} (h : dOK G r dd) {t y : Nat} (hk : 2 ≤ G.1 t) (hy : y ∈ kids G t) : dd y < dd t := by
  unfold kids at hy
  by_cases e : G.1 t = 3
  · rw [if_pos e] at hy; rw [List.mem_singleton.mp hy]; exact (h.2 t hk).1
  · rw [if_neg e] at hy
    rcases List.mem_cons.mp hy with q | q
    · rw [q]; exact (h.2 t hk).2 e
    · rw [List.mem_singleton.mp q]; exact (h.2 t hk).1
theorem kids_lt {N : Nat} {G : tG} {r : Nat → Nat} (h : TC N G r σ) {t y : Nat} (ht : t < N) (hk : 2 ≤ G.1 t) (hy : y ∈ kids G t) : y < N := by
  obtain ⟨_, _, c⟩ := h.2.2.2.2.2.2.1 t ht
  obtain ⟨_, c1, c2⟩ := c hk
  unfold kids at hy
  by_cases e : G.1 t = 3
  · rw [if_pos e] at hy; rw [List.mem_singleton.mp hy]; exact c1
  · rw [if_neg e] at hy
    rcases List.mem_cons.mp hy with q | q
    · rw [q]; exact (c2 e).2
    · rw [List.mem_singleton.mp q]; exact c1
end RND
