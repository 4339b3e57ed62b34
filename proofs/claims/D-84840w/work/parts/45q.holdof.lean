/-! REGIONS, THE MODEL: what the arrow of one fn must hold -/
section HOLDOF
variable {L : Nat} {xs : Nat → Int32} {σ σ' τ0 τ2 σ0 : tvS} {D : pgD} {Gs : sgD} {m f : Nat}
def FMH : List Nat := [169, 170, 174, 175, 183]
/-- while arrows come to hold more, in the model -/
def HPM (N : Nat) (G : tG) (r : Nat → Nat) (H1 S Sh : Nat) (ar : Nat → Nat) (A : Nat → Nat → Prop) (NL : List (Nat × Nat)) (hl : Nat → List Nat) (hv : Nat → Nat) (τ2 σ : tvS) : Prop :=
  MZ N G r hl hv (H1 + NL.length) S σ ∧ MH N Sh σ ∧ NL.Nodup ∧ (∀ e, e ∈ NL → A e.1 e.2 ∧ ∃ v, hC hl hv (r (ar e.1)) v ∧ r v = e.2) ∧ (HK N G r hl ∧ ∀ t, N ≤ t → hl t = []) ∧ frM FMH [73, 84] τ2 σ
/-- what the arrow at hand holds is marked -/
def MKj (N : Nat) (r : Nat → Nat) (Sh a : Nat) (hl : Nat → List Nat) (hv : Nat → Nat) (σ : tvS) : Prop := ∀ y, y < N → (rd σ 183 y = i32 (Sh : Int) ↔ ∃ v, hC hl hv (r a) v ∧ r v = y)
/-- what has come of some holds -/
def HRM (N : Nat) (G : tG) (r : Nat → Nat) (H1 S Sh : Nat) (ar : Nat → Nat) (A : Nat → Nat → Prop) (j : Nat) (NL : List (Nat × Nat)) (hl : Nat → List Nat) (hv : Nat → Nat) (Q : Nat → Nat → Prop) (τ2 : tvS) (y y' : Int32) (NL' : List (Nat × Nat)) (hl' : Nat → List Nat) (hv' : Nat → Nat) (σ' : tvS) : Prop :=
  HPM N G r H1 S Sh ar A NL' hl' hv' τ2 σ' ∧ MKj N r Sh (ar j) hl' hv' σ' ∧ hGe r (hC hl hv) (hC hl' hv') ∧ hLe r (hC hl' hv') Q ∧ NL.length ≤ NL'.length ∧ (y' = 0 ∨ y' = 1) ∧ ((y' = y ∧ NL' = NL ∧ hl' = hl ∧ hv' = hv) ∨ (y' = 1 ∧ NL.length < NL'.length))
theorem HRM.trans {N : Nat} {G : tG} {r : Nat → Nat} {H1 S Sh : Nat} {ar : Nat → Nat} {A : Nat → Nat → Prop} {j : Nat} {NL NL' NL'' : List (Nat × Nat)} {hl hl' hl'' : Nat → List Nat} {hv hv' hv'' : Nat → Nat} {Q : Nat → Nat → Prop} {y y' y'' : Int32} {σ'' : tvS} (g : HRM N G r H1 S Sh ar A j NL hl hv Q τ2 y y' NL' hl' hv' σ') (g' : HRM N G r H1 S Sh ar A j NL' hl' hv' Q τ2 y' y'' NL'' hl'' hv'' σ'') : HRM N G r H1 S Sh ar A j NL hl hv Q τ2 y y'' NL'' hl'' hv'' σ'' := by
  obtain ⟨a1, a2, a3, a4, a5, a6, a7⟩ := g
  obtain ⟨b1, b2, b3, b4, b5, b6, b7⟩ := g'
  refine ⟨b1, b2, fun t v e k => b3 t v e (a3 t v e k), b4, by omega, b6, ?_⟩
  rcases b7 with ⟨c1, c2, c3, c4⟩ | ⟨c1, c2⟩
  · rcases a7 with ⟨d1, d2, d3, d4⟩ | ⟨d1, d2⟩
    · exact .inl ⟨c1.trans d1, c2.trans d2, c3.trans d3, c4.trans d4⟩
    · exact .inr ⟨c1.trans d1, by rw [c2]; exact d2⟩
  · exact .inr ⟨c1, by omega⟩
theorem HRM.refl {N : Nat} {G : tG} {r : Nat → Nat} {H1 S Sh : Nat} {ar : Nat → Nat} {A : Nat → Nat → Prop} {j : Nat} {NL : List (Nat × Nat)} {hl : Nat → List Nat} {hv : Nat → Nat} {Q : Nat → Nat → Prop} {y : Int32} (h1 : HPM N G r H1 S Sh ar A NL hl hv τ2 σ) (h2 : MKj N r Sh (ar j) hl hv σ) (h3 : hLe r (hC hl hv) Q) (hy : y = 0 ∨ y = 1) : HRM N G r H1 S Sh ar A j NL hl hv Q τ2 y y NL hl hv σ := ⟨h1, h2, fun _ _ _ k => k, h3, Nat.le_refl _, hy, .inl ⟨rfl, rfl, rfl, rfl⟩⟩
section HH
variable {N : Nat} {G : tG} {r : Nat → Nat} {H1 S Sh M : Nat} {ar : Nat → Nat} {A : Nat → Nat → Prop} {Q : Nat → Nat → Prop}
/-- one more, or none -/
theorem HPM.hold {j u : Nat} {NL : List (Nat × Nat)} {hl : Nat → List Nat} {hv : Nat → Nat} {y : Int32} (hA : ∀ l : List (Nat × Nat), l.Nodup → (∀ e, e ∈ l → A e.1 e.2) → l.length ≤ M) (hM : H1 + M < 250000) (hcc : ∀ x, r (r x) = r x) (hSh : Sh < 2147483648) (hP : HPM N G r H1 S Sh ar A NL hl hv τ2 σ) (hmk : MKj N r Sh (ar j) hl hv σ) (hQ : hLe r (hC hl hv) Q) (hy : y = 0 ∨ y = 1) (hx : ar j < N) (hk : G.1 (r (ar j)) = 4) (hu : u < N) (ha : G.1 (r u) ≠ 1 → A j (r u)) (hq : G.1 (r u) ≠ 1 → Q (r (ar j)) (r u)) (d : Nat) (v3 v4 : Value) :
    ∃ (σ' : tvS) (z : Int32) (NL' : List (Nat × Nat)) (hl' : Nat → List Nat) (hv' : Nat → Nat), rn L xs (d + 2) 360 0 [.ref 123, .int (i32 (ar j : Int)), .int (i32 (u : Int)), v3, v4] [] σ = some (.inl (some (.int z)), σ') ∧ HRM N G r H1 S Sh ar A j NL hl hv Q τ2 y (y ||| z) NL' hl' hv' σ' ∧ Hd G r (hC hl' hv') (ar j) u := by
  obtain ⟨a1, a2, a3, a4, ⟨a5, a6⟩, a7⟩ := hP
  have hlen := hA NL a3 (fun e he => (a4 e he).1)
  have hrx := a1.1.rlt hx
  rcases addHeld_m (L := L) (xs := xs) a1 a2 hcc (by omega) hSh hx hu hmk d v3 v4 with ⟨s1, b1, b2, b3, b4, b5⟩ | ⟨s1, b1, b2, b3, b4, b5, b6, b7, b8⟩
  · refine ⟨s1, 0, NL, hl, hv, b1, ⟨⟨b2, b3, a3, a4, ⟨a5, a6⟩, a7.trans (b5.sub rfl rfl)⟩, fun t ht => by rw [b5.rd (j := 183) rfl]; exact hmk t ht, fun _ _ _ k => k, hQ, Nat.le_refl _, ?_, .inl ⟨?_, rfl, rfl, rfl⟩⟩, b4⟩
    · rcases hy with q | q <;> rw [q] <;> decide
    · rcases hy with q | q <;> rw [q] <;> decide
  · have hnm : (j, r u) ∉ NL := fun k => by
      obtain ⟨_, v, v1, v2⟩ := a4 _ k
      exact b6 ⟨v, v1, v2⟩
    have hge : hGe r (hC hl hv) (hC (upL hl (r (ar j)) ((H1 + NL.length) :: hl (r (ar j)))) (upN hv (H1 + NL.length) u)) := fun t v e k => by
      have ht : t < N := by
        apply Classical.byContradiction
        intro q
        obtain ⟨i, hi, _⟩ := k
        rw [a6 t (by omega)] at hi; cases hi
      exact (b4 t v e ht).mpr (.inl k)
    have hnew := (b4 (r (ar j)) u (hcc _) hrx).mpr (.inr ⟨rfl, rfl⟩)
    refine ⟨s1, 1, NL ++ [(j, r u)], _, _, b1, ⟨⟨?_, b3, ?_, fun e he => ?_, ⟨fun t ht hr hne => ?_, fun t ht => ?_⟩, a7.trans (b8.sub rfl rfl)⟩, fun t ht => ?_, hge, fun t v e k => ?_, ?_, ?_, .inr ⟨?_, ?_⟩⟩, .inr ⟨u, hnew, rfl⟩⟩
    · rw [List.length_append]; exact b2
    · rw [List.nodup_append]
      exact ⟨a3, List.nodup_cons.mpr ⟨fun k => (by cases k), List.nodup_nil⟩, fun p hp q hq e => hnm (by rw [List.mem_singleton.mp hq] at e; rw [← e]; exact hp)⟩
    · rcases List.mem_append.mp he with k | k
      · obtain ⟨q1, v, q2, q3⟩ := a4 e k
        exact ⟨q1, v, hge _ v (hcc _) q2, q3⟩
      · rw [List.mem_singleton.mp k]
        exact ⟨ha b5, u, hnew, rfl⟩
    · by_cases e : t = r (ar j)
      · rw [e]; exact hk
      · unfold upL at hne
        rw [if_neg e] at hne
        exact a5 t ht hr hne
    · unfold upL
      rw [if_neg (by omega)]; exact a6 t ht
    · rw [b7 t ht, hmk t ht]
      constructor
      · rintro (⟨v, v1, v2⟩ | k)
        · exact ⟨v, hge _ v (hcc _) v1, v2⟩
        · exact ⟨u, hnew, k.symm⟩
      · rintro ⟨v, v1, v2⟩
        rcases (b4 _ v (hcc _) hrx).mp v1 with k | ⟨_, k⟩
        · exact .inl ⟨v, k, v2⟩
        · rw [k] at v2; exact .inr v2.symm
    · by_cases ht : t < N
      · rcases (b4 t v e ht).mp k with k | ⟨k1, k2⟩
        · exact hQ t v e k
        · rw [k1, k2]; exact hq b5
      · obtain ⟨i, hi, _⟩ := k
        unfold upL at hi
        rw [if_neg (by omega), a6 t (by omega)] at hi; cases hi
    · rw [List.length_append]; exact Nat.le_succ _
    · rcases hy with q | q <;> rw [q] <;> decide
    · rcases hy with q | q <;> rw [q] <;> decide
    · rw [List.length_append]; exact Nat.lt_succ_self _
end HH
/-- whether a variable is in a chain of scopes -/
theorem around_m {S0 S1 v : Nat} {vs us sc : Nat → Nat} {cl : Nat → List Nat} (hsc : SCm D f S0 S1 vs us sc cl τ0) (h149 : ∀ i, rd σ 149 i = rd τ0 149 i) (h150 : ∀ i, rd σ 150 i = rd τ0 150 i) (h94 : rd σ 123 94 = i32 ((S0 + 1 : Nat) : Int)) (hv : v < 4101) (htv : D.tV (f + 1) ≤ 3000) (d : Nat) : ∀ (n s : Nat) (v2 : Value), s ≤ n → (s = 0 ∨ (S0 < s ∧ s ≤ S1)) → ∃ y : Int32, rn L xs (d + 1) 359 2 [.ref 123, .int (i32 (v : Int)), v2, .int (i32 (s : Int))] [] σ = some (.inl (some (.int y)), σ) ∧ ((y = 1 ∧ v ∈ cl s) ∨ (y = 0 ∧ v ∉ cl s)) := by
  obtain ⟨⟨c1, c2, c3, c4⟩, c5, c6, c7⟩ := hsc
  have zero : ∀ v2 : Value, ∃ y : Int32, rn L xs (d + 1) 359 2 [.ref 123, .int (i32 (v : Int)), v2, .int (i32 ((0 : Nat) : Int))] [] σ = some (.inl (some (.int y)), σ) ∧ ((y = 1 ∧ v ∈ cl 0) ∨ (y = 0 ∧ v ∉ cl 0)) := fun v2 => by
    refine ⟨0, ?_, .inr ⟨rfl, by rw [c6]; exact fun k => by cases k⟩⟩
    rw [e359_2, h94, c2_lt (by omega) (by omega) (by omega) (by omega), c_t (by omega), e359_32]
  intro n
  induction n with
  | zero =>
    intro s v2 hn hs
    have : s = 0 := by omega
    rw [this]; exact zero v2
  | succ n ih =>
    intro s v2 hn hs
    by_cases e0 : s = 0
    · rw [e0]; exact zero v2
    · obtain ⟨h1, h2⟩ := hs.resolve_left e0
      obtain ⟨g1, g2, g3, g4, g5, g6, g7⟩ := c5 s h1 h2
      have go : rn L xs (d + 1) 359 2 [.ref 123, .int (i32 (v : Int)), v2, .int (i32 (s : Int))] [] σ = cond (decide (¬ (vs s : Int) = (v : Int))) (rn L xs (d + 1) 359 22 [.ref 123, .int (i32 (v : Int)), v2, .int (i32 (s : Int))] [] σ) (some (.inl (some (.int 1)), σ)) := by
        rw [e359_2, h94, c2_lt (by omega) (by omega) (by omega) (by omega), c_f (by omega), c_in (by omega) (by omega) (by omega), i32_ixn (by omega), h149, g1, c2_ne (by omega) (by omega) (by omega) (by omega)]
      rw [go, g7]
      by_cases ev : vs s = v
      · refine ⟨1, ?_, .inl ⟨rfl, by rw [ev]; exact List.mem_cons_self⟩⟩
        rw [decide_eq_false (by omega), cond_false]
      · obtain ⟨y, y1, y2⟩ := ih (us s) (jk v2) (by omega) (g6.imp id (fun k => ⟨k, by omega⟩))
        refine ⟨y, ?_, ?_⟩
        · rw [decide_eq_true (by omega), cond_true, e359_22, c_in (by omega) (by omega) (by omega), i32_ixn (by omega), h150, g2]
          exact y1
        · rcases y2 with ⟨k1, k2⟩ | ⟨k1, k2⟩
          · exact .inl ⟨k1, List.mem_cons_of_mem _ k2⟩
          · refine .inr ⟨k1, fun k => ?_⟩
            rcases List.mem_cons.mp k with k | k
            · exact ev k.symm
            · exact k2 k
/-- whether a number goes beyond -/
theorem kept_m {k e : Nat} {o : Int} {st : Nat} (hk : k < 60) (he : e < 4101) (hst : st < 4101) (h186 : rd σ 186 k = i32 o) (ho : -2 ≤ o ∧ o < 4101) (h161 : rd σ 161 e = i32 (st : Int)) (d : Nat) (v3 : Value) : ∃ y : Int32, rn L xs (d + 1) 361 0 [.ref 123, .int (i32 ((k + 1 : Nat) : Int)), .int (i32 (e : Int)), v3] [] σ = some (.inl (some (.int y)), σ) ∧ ((y = 1 ∧ (o = -1 ∨ o < (st : Int) ∨ (e : Int) < o)) ∨ (y = 0 ∧ ¬ (o = -1 ∨ o < (st : Int) ∨ (e : Int) < o))) := by
  have ek : i32 ((k + 1 : Nat) : Int) - 1 = i32 (k : Int) := by rw [show (1 : Int32) = i32 1 from rfl, i32_sub]; congr 1; omega
  have t1 : ∀ v3 : Value, rn L xs (d + 1) 361 29 [.ref 123, .int (i32 ((k + 1 : Nat) : Int)), .int (i32 (e : Int)), v3] [] σ = some (.inl (some (.int 1)), σ) := fun v3 => by rw [e361_29, e361_34, b01_1, cond_true]
  rw [e361_0, ek, c_in (by omega) (by omega) (by omega), i32_ixn (by omega), h186, i32_raw, c2_eq (by omega) (by omega) (by omega) (by omega)]
  by_cases q1 : o = -1
  · exact ⟨1, by rw [c_t (by omega)]; exact t1 _, .inl ⟨rfl, .inl q1⟩⟩
  · rw [c_f (by omega), c_in (by omega) (by omega) (by omega), i32_ixn (by omega), h161, c2_lt (by omega) (by omega) (by omega) (by omega)]
    by_cases q2 : o < (st : Int)
    · exact ⟨1, by rw [c_t (by omega)]; exact t1 _, .inl ⟨rfl, .inr (.inl q2)⟩⟩
    · rw [c_f (by omega), c2_le (by omega) (by omega) (by omega) (by omega)]
      by_cases q3 : o ≤ (e : Int)
      · exact ⟨0, by rw [c_t (by omega), e361_33, e361_34, b01_0, cond_true], .inr ⟨rfl, by omega⟩⟩
      · exact ⟨1, by rw [c_f (by omega)]; exact t1 _, .inl ⟨rfl, .inr (.inr (by omega))⟩⟩
end HOLDOF
