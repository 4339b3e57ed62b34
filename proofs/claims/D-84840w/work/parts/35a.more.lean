/-! TYPES OF THE MODEL: tables in the midst of a copy; one more type -/
section TQM
variable {L : Nat} {xs : Nat → Int32} {σ σ' : tvS}
def TMq (K : Nat → Prop) (N : Nat) (G : tG) (r : Nat → Nat) (σ : tvS) : Prop :=
  rd σ 123 63 = i32 (N : Int) ∧ 0 < N ∧ N ≤ 100000 ∧ LNM N r σ ∧ (∀ x, N ≤ x → r x = x ∧ G.1 x = 0) ∧
  (∀ x, x < N → rd σ 166 x = i32 (G.1 x : Int) ∧ G.1 x ≤ 4 ∧ (2 ≤ G.1 x → K x → rd σ 167 x = i32 (G.2.1 x : Int) ∧ G.2.1 x < N ∧ (G.1 x ≠ 3 → rd σ 168 x = i32 (G.2.2 x : Int) ∧ G.2.2 x < N))) ∧
  (∀ x, G.1 x = 1 ↔ x = 0)
theorem TM.q {N : Nat} {G : tG} {r : Nat → Nat} (K : Nat → Prop) (h : TM N G r σ) : TMq K N G r σ := by
  obtain ⟨a1, a2, a3, a5, a6, a7, a8⟩ := h
  exact ⟨a1, a2, a3, a5, a6, fun x hx => ⟨(a7 x hx).1, (a7 x hx).2.1, fun h _ => (a7 x hx).2.2 h⟩, a8⟩
theorem TMq.all {K : Nat → Prop} {N : Nat} {G : tG} {r : Nat → Nat} (h : TMq K N G r σ) (hK : ∀ x, x < N → 2 ≤ G.1 x → K x) : TM N G r σ := by
  obtain ⟨a1, a2, a3, a5, a6, a7, a8⟩ := h
  exact ⟨a1, a2, a3, a5, a6, fun x hx => ⟨(a7 x hx).1, (a7 x hx).2.1, fun h => (a7 x hx).2.2 h (hK x hx h)⟩, a8⟩
theorem TMq.M {K : Nat → Prop} {N : Nat} {G : tG} {r : Nat → Nat} {S F : List Nat} (h : TMq K N G r σ) (g : frM S F σ σ') (hF : inL F 63 = false) (hS : inL S 166 = false ∧ inL S 167 = false ∧ inL S 168 = false) (hr : LNM N r σ') : TMq K N G r σ' := by
  obtain ⟨a1, a2, a3, a5, a6, a7, a8⟩ := h
  refine ⟨by rw [g.2 63 hF]; exact a1, a2, a3, hr, a6, fun x hx => ?_, a8⟩
  rw [g.rd (j := 166) hS.1, g.rd (j := 167) hS.2.1, g.rd (j := 168) hS.2.2]
  exact a7 x hx
theorem TMq.fr {K : Nat → Prop} {N : Nat} {G : tG} {r : Nat → Nat} {S F : List Nat} (h : TMq K N G r σ) (g : frM S F σ σ') (hF : inL F 63 = false) (hS : inL S 166 = false ∧ inL S 167 = false ∧ inL S 168 = false ∧ inL S 169 = false) : TMq K N G r σ' :=
  h.M g hF ⟨hS.1, hS.2.1, hS.2.2.1⟩ (h.2.2.2.1.fr (fun i => g.rd (j := 169) hS.2.2.2 i))
theorem TMq.rlt {K : Nat → Prop} {N : Nat} {G : tG} {r : Nat → Nat} (h : TMq K N G r σ) {x : Nat} (hx : x < N) : r x < N := by
  obtain ⟨rk, h⟩ := h.2.2.2.1
  exact (h x hx).1
theorem TMq.rr {K : Nat → Prop} {N : Nat} {G : tG} {r : Nat → Nat} (h : TMq K N G r σ) {x : Nat} (hx : x < N) : r (r x) = r x := by
  obtain ⟨rk, g⟩ := h.2.2.2.1
  exact (findm_up (L := 0) (xs := fun _ => 0) g h.2.2.1 0 (i32 x) .null .null (rk x) x (Nat.le_refl _) hx).2.2.1
theorem find_MQ {K : Nat → Prop} {N : Nat} {G : tG} {r : Nat → Nat} (h : TMq K N G r σ) {x : Nat} (hx : x < N) (d : Nat) (v2 v3 v4 : Value) :
    ∃ σ', rn L xs (d + 1) 337 0 [.ref 123, .int (i32 x), v2, v3, v4] [] σ = some (.inl (some (.int (i32 (r x)))), σ') ∧ TMq K N G r σ' ∧ frM [169] [] σ σ' := by
  obtain ⟨σ', a, b, c⟩ := find_m (L := L) (xs := xs) h.2.2.2.1 h.2.2.1 hx d v2 v3 v4
  exact ⟨σ', a, h.M (c.M [] rfl) rfl ⟨rfl, rfl, rfl⟩ b, c.M [] rfl⟩
def gro9 : List Nat := [166, 167, 168, 169, 170, 171, 172, 183]
def frNM (N : Nat) (σ σ' : tvS) : Prop := (∀ j i, i ≠ N ∨ inL gro9 j = false → ¬ (j = 123 ∧ i = 63) → rd σ' j i = rd σ j i) ∧ frM gro9 [63] σ σ'
/-- one more type -/
theorem add_m {K K' : Nat → Prop} {N : Nat} {G : tG} {r : Nat → Nat} {hl : Nat → List Nat} {hv : Nat → Nat} {H Sm Sh : Nat} (hT : TMq K N G r σ) (hH : HM N r hl hv H σ) (hM : MT N Sm σ) (hS : MH N Sh σ) (hN : N < 100000) (hl0 : hl N = []) {k a b : Nat} {x2 x3 : Int32} (hk : k ≤ 4) (hk1 : k ≠ 1)
    (hK : ∀ x, x < N → K' x → K x) (hkid : 2 ≤ k → K' N → x2 = i32 (a : Int) ∧ a < N ∧ (k ≠ 3 → x3 = i32 (b : Int) ∧ b < N)) (d : Nat) (v4 : Value) :
    ∃ σ', rn L xs (d + 1) 331 0 [.ref 123, .int (i32 k), .int x2, .int x3, v4] [] σ = some (.inl (some (.int (i32 N))), σ') ∧ TMq K' (N + 1) (gAdd G N k a b) r σ' ∧ HM (N + 1) r hl hv H σ' ∧ MT (N + 1) Sm σ' ∧ MH (N + 1) Sh σ' ∧ frNM N σ σ' := by
  obtain ⟨a1, a2, a3, a5, a6, a7, a8⟩ := id hT
  have rN := (a6 N (Nat.le_refl _)).1
  have e1 : i32 (N : Int) + 1 = i32 ((N + 1 : Nat) : Int) := by rw [show (1 : Int32) = i32 1 from rfl, i32_add]; rfl
  rw [e331_0, a1, show (100000 : Int32) = i32 100000 from rfl, c2_ge (by omega) (by omega) (by omega) (by omega), c_f (by omega), e331_19, c_in (by omega) (by omega) (by omega), c_in (by omega) (by omega) (by omega), c_in (by omega) (by omega) (by omega), c_in (by omega) (by omega) (by omega), c_in (by omega) (by omega) (by omega), c_in (by omega) (by omega) (by omega), c_in (by omega) (by omega) (by omega), c_in (by omega) (by omega) (by omega), i32_ixn (by omega), e1, i32_raw]
  refine ⟨_, rfl, ?_⟩
  have fM : frM gro9 [63] σ (wr (wr (wr (wr (wr (wr (wr (wr (wr σ 166 N (i32 k)) 167 N x2) 168 N x3) 169 N (i32 (N : Int))) 170 N (i32 (-1))) 171 N 0) 172 N 0) 183 N 0) 123 63 (i32 ((N + 1 : Nat) : Int))) :=
    (frM_wr rfl (by decide)).trans ((frM_wr rfl (by decide)).trans ((frM_wr rfl (by decide)).trans ((frM_wr rfl (by decide)).trans ((frM_wr rfl (by decide)).trans ((frM_wr rfl (by decide)).trans ((frM_wr rfl (by decide)).trans ((frM_wr rfl (by decide)).trans (frM_w rfl))))))))
  have old : ∀ j i, i ≠ N ∨ inL gro9 j = false → ¬ (j = 123 ∧ i = 63) → rd (wr (wr (wr (wr (wr (wr (wr (wr (wr σ 166 N (i32 k)) 167 N x2) 168 N x3) 169 N (i32 (N : Int))) 170 N (i32 (-1))) 171 N 0) 172 N 0) 183 N 0) 123 63 (i32 ((N + 1 : Nat) : Int))) j i = rd σ j i := fun j i h1 h2 => by
    have hne : ∀ q, inL gro9 q = true → ¬ (j = q ∧ i = N) := fun q hq e => by
      rcases h1 with h1 | h1
      · exact h1 e.2
      · rw [e.1, hq] at h1; cases h1
    rw [rdne h2, rdne (hne 183 rfl), rdne (hne 172 rfl), rdne (hne 171 rfl), rdne (hne 170 rfl), rdne (hne 169 rfl), rdne (hne 168 rfl), rdne (hne 167 rfl), rdne (hne 166 rfl)]
  have n63 : rd (wr (wr (wr (wr (wr (wr (wr (wr (wr σ 166 N (i32 k)) 167 N x2) 168 N x3) 169 N (i32 (N : Int))) 170 N (i32 (-1))) 171 N 0) 172 N 0) 183 N 0) 123 63 (i32 ((N + 1 : Nat) : Int))) 123 63 = i32 ((N + 1 : Nat) : Int) := wr_self _ _ _ _
  have n166 : rd (wr (wr (wr (wr (wr (wr (wr (wr (wr σ 166 N (i32 k)) 167 N x2) 168 N x3) 169 N (i32 (N : Int))) 170 N (i32 (-1))) 171 N 0) 172 N 0) 183 N 0) 123 63 (i32 ((N + 1 : Nat) : Int))) 166 N = i32 k := by
    rw [wr_nek (by decide), wr_nek (by decide), wr_nek (by decide), wr_nek (by decide), wr_nek (by decide), wr_nek (by decide), wr_nek (by decide), wr_nek (by decide), wr_self]
  have n167 : rd (wr (wr (wr (wr (wr (wr (wr (wr (wr σ 166 N (i32 k)) 167 N x2) 168 N x3) 169 N (i32 (N : Int))) 170 N (i32 (-1))) 171 N 0) 172 N 0) 183 N 0) 123 63 (i32 ((N + 1 : Nat) : Int))) 167 N = x2 := by
    rw [wr_nek (by decide), wr_nek (by decide), wr_nek (by decide), wr_nek (by decide), wr_nek (by decide), wr_nek (by decide), wr_nek (by decide), wr_self]
  have n168 : rd (wr (wr (wr (wr (wr (wr (wr (wr (wr σ 166 N (i32 k)) 167 N x2) 168 N x3) 169 N (i32 (N : Int))) 170 N (i32 (-1))) 171 N 0) 172 N 0) 183 N 0) 123 63 (i32 ((N + 1 : Nat) : Int))) 168 N = x3 := by
    rw [wr_nek (by decide), wr_nek (by decide), wr_nek (by decide), wr_nek (by decide), wr_nek (by decide), wr_nek (by decide), wr_self]
  have n169 : rd (wr (wr (wr (wr (wr (wr (wr (wr (wr σ 166 N (i32 k)) 167 N x2) 168 N x3) 169 N (i32 (N : Int))) 170 N (i32 (-1))) 171 N 0) 172 N 0) 183 N 0) 123 63 (i32 ((N + 1 : Nat) : Int))) 169 N = i32 (N : Int) := by
    rw [wr_nek (by decide), wr_nek (by decide), wr_nek (by decide), wr_nek (by decide), wr_nek (by decide), wr_self]
  have n170 : rd (wr (wr (wr (wr (wr (wr (wr (wr (wr σ 166 N (i32 k)) 167 N x2) 168 N x3) 169 N (i32 (N : Int))) 170 N (i32 (-1))) 171 N 0) 172 N 0) 183 N 0) 123 63 (i32 ((N + 1 : Nat) : Int))) 170 N = i32 (-1) := by
    rw [wr_nek (by decide), wr_nek (by decide), wr_nek (by decide), wr_nek (by decide), wr_self]
  have n171 : rd (wr (wr (wr (wr (wr (wr (wr (wr (wr σ 166 N (i32 k)) 167 N x2) 168 N x3) 169 N (i32 (N : Int))) 170 N (i32 (-1))) 171 N 0) 172 N 0) 183 N 0) 123 63 (i32 ((N + 1 : Nat) : Int))) 171 N = 0 := by
    rw [wr_nek (by decide), wr_nek (by decide), wr_nek (by decide), wr_self]
  have n172 : rd (wr (wr (wr (wr (wr (wr (wr (wr (wr σ 166 N (i32 k)) 167 N x2) 168 N x3) 169 N (i32 (N : Int))) 170 N (i32 (-1))) 171 N 0) 172 N 0) 183 N 0) 123 63 (i32 ((N + 1 : Nat) : Int))) 172 N = 0 := by
    rw [wr_nek (by decide), wr_nek (by decide), wr_self]
  have n183 : rd (wr (wr (wr (wr (wr (wr (wr (wr (wr σ 166 N (i32 k)) 167 N x2) 168 N x3) 169 N (i32 (N : Int))) 170 N (i32 (-1))) 171 N 0) 172 N 0) 183 N 0) 123 63 (i32 ((N + 1 : Nat) : Int))) 183 N = 0 := by
    rw [wr_nek (by decide), wr_self]
  generalize wr (wr (wr (wr (wr (wr (wr (wr (wr σ 166 N (i32 k)) 167 N x2) 168 N x3) 169 N (i32 (N : Int))) 170 N (i32 (-1))) 171 N 0) 172 N 0) 183 N 0) 123 63 (i32 ((N + 1 : Nat) : Int)) = s' at *
  have g1 : ∀ x, x < N → (gAdd G N k a b).1 x = G.1 x ∧ (gAdd G N k a b).2.1 x = G.2.1 x ∧ (gAdd G N k a b).2.2 x = G.2.2 x := fun x hx => ⟨if_neg (by omega), if_neg (by omega), if_neg (by omega)⟩
  have g2 : (gAdd G N k a b).1 N = k ∧ (gAdd G N k a b).2.1 N = a ∧ (gAdd G N k a b).2.2 N = b := ⟨if_pos rfl, if_pos rfl, if_pos rfl⟩
  refine ⟨⟨n63, by omega, by omega, ?_, fun x hx => ⟨(a6 x (by omega)).1, by rw [show (gAdd G N k a b).1 x = G.1 x from if_neg (by omega)]; exact (a6 x (by omega)).2⟩, fun x hx => ?_, fun x => ?_⟩, ⟨?_, hH.2.1, ?_, fun t ht hr => ?_, ?_⟩, ⟨?_, fun x hx => ?_⟩, ⟨?_, fun x hx => ?_⟩, ⟨old, fM⟩⟩
  · obtain ⟨rk, h5⟩ := a5
    refine ⟨rk, fun x hx => ?_⟩
    by_cases e : x = N
    · subst e; exact ⟨by rw [rN]; omega, .inl ⟨n169, rN⟩⟩
    · obtain ⟨h6, h7⟩ := h5 x (by omega)
      refine ⟨by omega, ?_⟩
      rw [old 169 x (.inl e) (by omega)]
      rcases h7 with h7 | ⟨y, h8, h9⟩
      · exact .inl h7
      · exact .inr ⟨y, by omega, h9⟩
  · by_cases e : x = N
    · subst e
      rw [g2.1, g2.2.1, g2.2.2, n166, n167, n168]
      refine ⟨rfl, hk, fun h2 hq => ?_⟩
      obtain ⟨y1, y2, y3⟩ := hkid h2 hq
      exact ⟨y1, by omega, fun h3 => ⟨(y3 h3).1, by have := (y3 h3).2; omega⟩⟩
    · have hxN : x < N := by omega
      obtain ⟨y1, y2, y3⟩ := a7 x hxN
      rw [(g1 x hxN).1, (g1 x hxN).2.1, (g1 x hxN).2.2, old 166 x (.inl e) (by omega), old 167 x (.inl e) (by omega), old 168 x (.inl e) (by omega)]
      refine ⟨y1, y2, fun h2 hq => ?_⟩
      obtain ⟨y4, y5, y6⟩ := y3 h2 (hK x hxN hq)
      exact ⟨y4, by omega, fun h3 => ⟨(y6 h3).1, by have := (y6 h3).2; omega⟩⟩
  · by_cases e : x = N
    · rw [e, g2.1]; exact ⟨fun q => absurd q hk1, fun q => by omega⟩
    · rw [show (gAdd G N k a b).1 x = G.1 x from if_neg e]; exact a8 x
  · rw [old 123 73 (.inr rfl) (by decide)]; exact hH.1
  · intro i hi
    rw [old 174 i (.inr rfl) (by omega)]
    exact ⟨(hH.2.2.1 i hi).1, by have := (hH.2.2.1 i hi).2; omega⟩
  · by_cases e : t = N
    · subst e
      rw [hl0]
      exact ⟨n170, List.nodup_nil, fun i hi => (by cases hi)⟩
    · obtain ⟨b1, b2, b3⟩ := hH.2.2.2.1 t (by omega) hr
      rw [old 170 t (.inl e) (by omega)]
      exact ⟨b1.congr (fun i _ => old 175 i (.inr rfl) (by omega)), b2, b3⟩
  · intro t t' i ht ht' hr hr' hi hi'
    by_cases e : t = N
    · rw [e, hl0] at hi; cases hi
    · by_cases e' : t' = N
      · rw [e', hl0] at hi'; cases hi'
      · exact hH.2.2.2.2 t t' i (by omega) (by omega) hr hr' hi hi'
  · rw [old 123 72 (.inr rfl) (by decide)]; exact hM.1
  · by_cases e : x = N
    · rw [e, n171, n172]; exact ⟨⟨0, Nat.zero_le _, rfl⟩, ⟨0, Nat.zero_le _, rfl⟩⟩
    · rw [old 171 x (.inl e) (by omega), old 172 x (.inl e) (by omega)]; exact hM.2 x (by omega)
  · rw [old 123 84 (.inr rfl) (by decide)]; exact hS.1
  · by_cases e : x = N
    · rw [e, n183]; exact ⟨0, Nat.zero_le _, rfl⟩
    · rw [old 183 x (.inl e) (by omega)]; exact hS.2 x (by omega)
end TQM
