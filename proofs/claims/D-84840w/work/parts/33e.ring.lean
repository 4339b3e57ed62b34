/-! TYPES OF THE MODEL: is there a ring? -/
section RGM
variable {L : Nat} {xs : Nat → Int32} {σ σ' : tvS}
def dnd (S : Nat) (σ : tvS) (y : Nat) : Prop := rd σ 172 y = i32 (S : Int)
def qP (G : tG) (r : Nat → Nat) (Q : Nat → Prop) (A : List (Nat × Bool)) (y : Nat) : Prop := G.1 (r y) < 2 ∨ Q (r y) ∨ ∃ f, f ∈ A ∧ f.1 = r y
def qK (G : tG) (r : Nat → Nat) (Q : Nat → Prop) : List (Nat × Bool) → List (Nat × Bool) → Prop
  | _, [] => True
  | A, e :: W => (e.2 = true → ∀ y, y ∈ kids G e.1 → qP G r Q A y) ∧ qK G r Q (e :: A) W
def qD (dd : Nat → Nat) : List (Nat × Bool) → Prop
  | [] => True
  | e :: W => (∀ m, (m, true) ∈ W → dd e.1 < dd m) ∧ qD dd W
def qN : List (Nat × Bool) → Prop
  | [] => True
  | e :: W => (∀ m, (m, true) ∈ W → e.1 ≠ m) ∧ qN W
theorem qP.mono {G : tG} {r : Nat → Nat} {Q Q' : Nat → Prop} {A A' : List (Nat × Bool)} (h : ∀ y, qP G r Q A y → qP G r Q' A' y) (e : Nat × Bool) (y : Nat) (q : qP G r Q (e :: A) y) : qP G r Q' (e :: A') y := by
  have up : qP G r Q' A' y → qP G r Q' (e :: A') y := by
    rintro (a | a | ⟨u, a, b⟩)
    · exact .inl a
    · exact .inr (.inl a)
    · exact .inr (.inr ⟨u, List.mem_cons_of_mem _ a, b⟩)
  rcases q with a | a | ⟨u, a, b⟩
  · exact up (h y (.inl a))
  · exact up (h y (.inr (.inl a)))
  · rcases List.mem_cons.mp a with c | c
    · exact .inr (.inr ⟨u, by rw [c]; exact List.mem_cons_self, b⟩)
    · exact up (h y (.inr (.inr ⟨u, c, b⟩)))
theorem qK.mono {G : tG} {r : Nat → Nat} {Q Q' : Nat → Prop} : ∀ {W A A' : List (Nat × Bool)}, (∀ y, qP G r Q A y → qP G r Q' A' y) → qK G r Q A W → qK G r Q' A' W := by
  intro W
  induction W with
  | nil => intro A A' _ _; exact trivial
  | cons e W ih => intro A A' h g; exact ⟨fun t y hy => h y (g.1 t y hy), ih (qP.mono h e) g.2⟩
theorem qK_app {G : tG} {r : Nat → Nat} {Q : Nat → Prop} : ∀ (l : List (Nat × Bool)) {A W : List (Nat × Bool)}, (∀ e, e ∈ l → e.2 = false) → qK G r Q (l.reverse ++ A) W → qK G r Q A (l ++ W) := by
  intro l
  induction l with
  | nil => intro A W _ h; exact h
  | cons e l ih =>
    intro A W hf h
    refine ⟨fun k => absurd k (by rw [hf e List.mem_cons_self]; exact Bool.false_ne_true), ih (fun e' he => hf e' (List.mem_cons_of_mem _ he)) ?_⟩
    rw [List.reverse_cons, List.append_assoc] at h; exact h
theorem opn_app {l W : List (Nat × Bool)} (hf : ∀ e, e ∈ l → e.2 = false) {m : Nat} (h : (m, true) ∈ l ++ W) : (m, true) ∈ W := by
  rcases List.mem_append.mp h with h | h
  · exact absurd (hf _ h) (fun k => Bool.false_ne_true k.symm)
  · exact h
theorem qD_app {dd : Nat → Nat} : ∀ (l : List (Nat × Bool)) {W : List (Nat × Bool)}, (∀ e, e ∈ l → e.2 = false) → (∀ e, e ∈ l → ∀ m, (m, true) ∈ W → dd e.1 < dd m) → qD dd W → qD dd (l ++ W) := by
  intro l
  induction l with
  | nil => intro W _ _ h; exact h
  | cons e l ih =>
    intro W hf h g
    have hf' : ∀ e', e' ∈ l → e'.2 = false := fun e' he => hf e' (List.mem_cons_of_mem _ he)
    exact ⟨fun m hm => h e List.mem_cons_self m (opn_app hf' hm), ih hf' (fun e' he => h e' (List.mem_cons_of_mem _ he)) g⟩
theorem qN_app : ∀ (l : List (Nat × Bool)) {W : List (Nat × Bool)}, (∀ e, e ∈ l → e.2 = false) → (∀ e, e ∈ l → ∀ m, (m, true) ∈ W → e.1 ≠ m) → qN W → qN (l ++ W) := by
  intro l
  induction l with
  | nil => intro W _ _ h; exact h
  | cons e l ih =>
    intro W hf h g
    have hf' : ∀ e', e' ∈ l → e'.2 = false := fun e' he => hf e' (List.mem_cons_of_mem _ he)
    exact ⟨fun m hm => h e List.mem_cons_self m (opn_app hf' hm), ih hf' (fun e' he => h e' (List.mem_cons_of_mem _ he)) g⟩
theorem qP_drop {G : tG} {r : Nat → Nat} {Q : Nat → Prop} {e : Nat × Bool} {A : List (Nat × Bool)} {y : Nat} (h : G.1 e.1 < 2 ∨ Q e.1) (q : qP G r Q (e :: A) y) : qP G r Q A y := by
  rcases q with a | a | ⟨u, a, b⟩
  · exact .inl a
  · exact .inr (.inl a)
  · rcases List.mem_cons.mp a with a | a
    · rw [a] at b
      rw [b] at h
      exact h.elim .inl (fun h => .inr (.inl h))
    · exact .inr (.inr ⟨u, a, b⟩)
def mQ (N : Nat) (G : tG) (S : Nat) (σ : tvS) (t : Nat) : Prop := dnd S σ t ∧ 2 ≤ G.1 t ∧ t < N
def qI (N : Nat) (G : tG) (r : Nat → Nat) (S x : Nat) (dp : Nat → Nat) (c : Nat) (W : List (Nat × Bool)) (σ : tvS) : Prop :=
  MT N S σ ∧ rwL σ (W.map Prod.fst) ∧ (∀ e, e ∈ W → e.1 < N ∧ r e.1 = e.1 ∧ (e.2 = true → 2 ≤ G.1 e.1 ∧ mkd S σ e.1 ∧ ¬ dnd S σ e.1)) ∧ (∀ t, t < N → mkd S σ t → 2 ≤ G.1 t ∧ (¬ dnd S σ t → (t, true) ∈ W)) ∧ (∀ t, t < N → dnd S σ t → 2 ≤ G.1 t → mkd S σ t) ∧
  qN W ∧ qK G r (mQ N G S σ) [] W ∧ (∀ dd, dOK G r dd → qD dd W) ∧ rC N G r (mQ N G S σ) dp c ∧ qP G r (mQ N G S σ) W x
def ub (N : Nat) (G : tG) (S : Nat) (σ : tvS) : Nat := ct (fun y => 2 ≤ G.1 y ∧ ¬ rd σ 171 y = i32 (S : Int)) N
/-- a kid of one that is opened: a ring, or it comes to the row, or it is closed -/
theorem kid_m {N S n c : Nat} (hN : N ≤ 100000) (hS : S < 2147483648) (hm : rd σ 123 72 = i32 (S : Int)) (hc : c < N) (hn : n < 100000) (d : Nat) (v1 v6 : Value) (t k : Int32) :
    (dnd S σ c → rn L xs (d + 1) 346 162 [.ref 123, v1, .int (i32 n), .int t, .int k, .int (i32 c), v6] [.int 0] σ = rn L xs (d + 1) 346 213 [.ref 123, v1, .int (i32 n), .int t, .int k, .int (i32 c), .int 0] [] σ) ∧
    (¬ dnd S σ c → mkd S σ c → rn L xs (d + 1) 346 162 [.ref 123, v1, .int (i32 n), .int t, .int k, .int (i32 c), v6] [.int 0] σ = some (.inl (some (.int 1)), σ)) ∧
    (¬ dnd S σ c → ¬ mkd S σ c → rn L xs (d + 1) 346 162 [.ref 123, v1, .int (i32 n), .int t, .int k, .int (i32 c), v6] [.int 0] σ = rn L xs (d + 1) 346 213 [.ref 123, jk v1, .int (i32 (n + 1 : Nat)), .int t, .int k, .int (i32 c), .int 0] [] (wr σ 176 n (i32 c))) := by
  have e1 : i32 (n : Int) + 1 = i32 (n + 1 : Nat) := by rw [show (1 : Int32) = i32 1 from rfl, i32_add]; rfl
  have z : pv_c1 .ne (0 : Int32) = false := rfl
  refine ⟨fun h => ?_, fun h1 h2 => ?_, fun h1 h2 => ?_⟩
  · rw [e346_162, z, cond_false, c_in (by omega) (by omega) (by omega), i32_ixn (by omega), hm, show rd σ 172 c = i32 (S : Int) from h, show pv_c2 .ne (i32 (S : Int)) (i32 (S : Int)) = false from decide_eq_false (fun k => k rfl), cond_false]
  · rw [e346_162, z, cond_false, c_in (by omega) (by omega) (by omega), i32_ixn (by omega), hm, show pv_c2 .ne (rd σ 172 c) (i32 (S : Int)) = true from decide_eq_true h1, cond_true, e346_186, c_in (by omega) (by omega) (by omega), i32_ixn (by omega), hm, show rd σ 171 c = i32 (S : Int) from h2, show pv_c2 .ne (i32 (S : Int)) (i32 (S : Int)) = false from decide_eq_false (fun k => k rfl), cond_false]
  · rw [e346_162, z, cond_false, c_in (by omega) (by omega) (by omega), i32_ixn (by omega), hm, show pv_c2 .ne (rd σ 172 c) (i32 (S : Int)) = true from decide_eq_true h1, cond_true, e346_186, c_in (by omega) (by omega) (by omega), i32_ixn (by omega), hm, show pv_c2 .ne (rd σ 171 c) (i32 (S : Int)) = true from decide_eq_true h2, cond_true, e346_202, c_in (by omega) (by omega) (by omega), i32_ixn (by omega), e1]
/-- one kid: from its find on -/
theorem kidF_m {N : Nat} {G : tG} {r : Nat → Nat} {S y : Nat} {W : List Nat} (hr2 : ∀ x, r (r x) = r x) (hT : TM N G r σ) (hS : S < 2147483648) (hM : MT N S σ) (hW : rwL σ W) (hy : y < N) (hl : W.length < 100000) (d : Nat) (t k : Int32) :
    ∃ s1, rn L xs (d + 1) 337 0 [.ref 123, .int (i32 y), jv, jv, jv] [] σ = some (.inl (some (.int (i32 (r y : Int)))), s1) ∧
    ((¬ dnd S σ (r y) ∧ mkd S σ (r y) ∧ frM [169] [] σ s1 ∧ ∀ v1 v6, rn L xs (d + 2) 346 162 [.ref 123, v1, .int (i32 W.length), .int t, .int k, .int (i32 (r y)), v6] [.int 0] s1 = some (.inl (some (.int 1)), s1)) ∨
     (∃ s2 l w6, (∀ v1 v6, ∃ u1, rn L xs (d + 2) 346 162 [.ref 123, v1, .int (i32 W.length), .int t, .int k, .int (i32 (r y)), v6] [.int 0] s1 = rn L xs (d + 2) 346 213 [.ref 123, u1, .int (i32 ((l ++ W).length : Nat)), .int t, .int k, .int (i32 (r y)), w6] [] s2) ∧
       TM N G r s2 ∧ MT N S s2 ∧ rwL s2 (l ++ W) ∧ frM [169, 176] [] σ s2 ∧ ((l = [] ∧ dnd S σ (r y)) ∨ (l = [r y] ∧ ¬ dnd S σ (r y) ∧ ¬ mkd S σ (r y))))) := by
  have hN := hT.2.2.1
  have hr := hT.rlt hy
  obtain ⟨s1, f1, T1, w1⟩ := find_M (L := L) (xs := xs) hT hy d jv jv jv
  have dn : dnd S s1 (r y) ↔ dnd S σ (r y) := by unfold dnd; rw [w1.rd (j := 172) rfl]
  have mk : mkd S s1 (r y) ↔ mkd S σ (r y) := by unfold mkd; rw [w1.rd (j := 171) rfl]
  have k := fun v1 v6 => kid_m (L := L) (xs := xs) (σ := s1) (N := N) (S := S) (n := W.length) (c := r y) hN hS (by rw [w1.2 72 rfl]; exact hM.1) hr hl (d + 1) v1 v6 t k
  refine ⟨s1, f1, ?_⟩
  by_cases q1 : dnd S σ (r y)
  · exact .inr ⟨s1, [], .int 0, fun v1 v6 => ⟨v1, (k v1 v6).1 (dn.mpr q1)⟩, T1, hM.fr w1 rfl ⟨rfl, rfl⟩, hW.fr w1 rfl, w1.sub rfl rfl, .inl ⟨rfl, q1⟩⟩
  · by_cases q2 : mkd S σ (r y)
    · exact .inl ⟨q1, q2, w1, fun v1 v6 => (k v1 v6).2.1 (fun h => q1 (dn.mp h)) (mk.mpr q2)⟩
    · have w2 : frM [176] [] s1 (wr s1 176 W.length (i32 (r y : Int))) := frM_wr rfl (by decide)
      exact .inr ⟨_, [r y], .int 0, fun v1 v6 => ⟨jk v1, (k v1 v6).2.2 (fun h => q1 (dn.mp h)) (fun h => q2 (mk.mp h))⟩, T1.fr w2 rfl ⟨rfl, rfl, rfl, rfl⟩, (hM.fr w1 rfl ⟨rfl, rfl⟩).fr w2 rfl ⟨rfl, rfl⟩, ⟨wr_self _ _ _ _, hW.congr (fun i hi => by rw [wr_nei (by omega), w1.rd (j := 176) rfl])⟩, (w1.sub rfl rfl).trans (w2.sub rfl rfl), .inr ⟨rfl, q1, q2⟩⟩
end RGM
