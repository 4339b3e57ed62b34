/-! TYPES OF THE COMPONENT: one more type; what is held -/
section ADC
variable {L : Nat} {xs : Nat → Int32} {σ σ' : tvS}
/-- what a new type leaves as it was -/
def frN (N : Nat) (σ σ' : tvS) : Prop := (∀ j i, i < N ∨ inL gro8 j = false → ¬ (j = 50 ∧ i = 8) → rd σ' j i = rd σ j i) ∧ frT gro8 gro8 [8] σ σ'
theorem add_c {K K' : Nat → Prop} {N : Nat} {G : tG} {r : Nat → Nat} {hl : Nat → List Nat} {hv : Nat → Nat} {H S : Nat} {K1 K2 : Nat} (hT : TCq K N G r σ) (hH : HO N r hl hv H σ) (hS : STP N S σ) (hR : ROOM K1 K2 σ) (hN : N < 122880) (hl0 : hl N = []) {k a b : Nat} {x2 x3 : Int32} (hk : k ≤ 4) (hk1 : k ≠ 1)
    (hK : ∀ x, x < N → K' x → K x) (hkid : 2 ≤ k → K' N → x2 = i32 (a : Int) ∧ a < N ∧ (k ≠ 3 → x3 = i32 (b : Int) ∧ b < N)) (d : Nat) (v4 : Value) :
    ∃ σ', rn L xs (d + 2) 79 0 [.ref 50, .int (i32 k), .int x2, .int x3, v4] [] σ = some (.inl (some (.int (i32 N))), σ') ∧ TCq K' (N + 1) (gAdd G N k a b) r σ' ∧ HO (N + 1) r hl hv H σ' ∧ STP (N + 1) S σ' ∧ ROOM K1 K2 σ' ∧ frN N σ σ' := by
  obtain ⟨a1, a2, a3, a4, a5, a6, a7, a8⟩ := id hT
  have hle := hR.le (k := 51) (M := 122880) (by decide)
  have rN := (a6 N (Nat.le_refl _)).1
  have rO : ∀ x, x < N → r x < N := fun x hx => hT.rlt hx
  have key : ∀ s : tvS, ROOM K1 K2 s → (∀ j i, i < N ∨ inL gro8 j = false → rd s j i = rd σ j i) → frG gro8 gro8 σ s → (∀ j, 51 ≤ j → j ≤ 58 → ln s j = ln s 51) → N < ln s 51 → ln s 51 ≤ 1000000 →
      ∃ σ', rn L xs (d + 2) 79 16 [.ref 50, .int (i32 k), .int x2, .int x3, v4] [] s = some (.inl (some (.int (i32 N))), σ') ∧ TCq K' (N + 1) (gAdd G N k a b) r σ' ∧ HO (N + 1) r hl hv H σ' ∧ STP (N + 1) S σ' ∧ ROOM K1 K2 σ' ∧ frN N σ σ' := by
    intro s hs hf hg hls hlt hbig
    have e8 : rd s 50 8 = i32 (N : Int) := by rw [hf 50 8 (.inr rfl)]; exact a1
    have ll : ∀ j, 51 ≤ j → j ≤ 58 → N < ln s j ∧ ln s j ≤ 1000000 := fun j h1 h2 => by rw [hls j h1 h2]; exact ⟨hlt, hbig⟩
    have l1 := ll 51 (by omega) (by omega)
    have l2 := ll 52 (by omega) (by omega)
    have l3 := ll 53 (by omega) (by omega)
    have l4 := ll 54 (by omega) (by omega)
    have l5 := ll 55 (by omega) (by omega)
    have l6 := ll 56 (by omega) (by omega)
    have l7 := ll 57 (by omega) (by omega)
    have e1 : i32 (N : Int) + 1 = i32 ((N + 1 : Nat) : Int) := by rw [show (1 : Int32) = i32 1 from rfl, i32_add]; rfl
    rw [e79_16 (d + 1), e8, c_in (by omega) (by omega) (by omega), c_in (by omega) (by omega) (by omega), c_in (by omega) (by omega) (by omega), c_in (by omega) (by omega) (by omega), c_in (by omega) (by omega) (by omega), c_in (by omega) (by omega) (by omega), c_in (by omega) (by omega) (by omega), i32_ixn (by omega), e1, i32_raw]
    refine ⟨_, rfl, ?_⟩
    have fW : frW [50, 51, 52, 53, 54, 55, 56, 57] s (wr (wr (wr (wr (wr (wr (wr (wr s 50 8 (i32 ((N + 1 : Nat) : Int))) 51 N (i32 k)) 52 N (i32 (-1))) 53 N x2) 54 N x3) 55 N (i32 (-1))) 56 N (i32 (-1))) 57 N 0) :=
      (frW_wr rfl).trans ((frW_wr rfl).trans ((frW_wr rfl).trans ((frW_wr rfl).trans ((frW_wr rfl).trans ((frW_wr rfl).trans ((frW_wr rfl).trans (frW_wr rfl)))))))
    have old : ∀ j i, i ≠ N → ¬ (j = 50 ∧ i = 8) → rd (wr (wr (wr (wr (wr (wr (wr (wr s 50 8 (i32 ((N + 1 : Nat) : Int))) 51 N (i32 k)) 52 N (i32 (-1))) 53 N x2) 54 N x3) 55 N (i32 (-1))) 56 N (i32 (-1))) 57 N 0) j i = rd s j i := fun j i h1 h2 => by
      rw [wr_nei h1, wr_nei h1, wr_nei h1, wr_nei h1, wr_nei h1, wr_nei h1, wr_nei h1, rdne h2]
    have oth : ∀ j i, inL gro8 j = false → ¬ (j = 50 ∧ i = 8) → rd (wr (wr (wr (wr (wr (wr (wr (wr s 50 8 (i32 ((N + 1 : Nat) : Int))) 51 N (i32 k)) 52 N (i32 (-1))) 53 N x2) 54 N x3) 55 N (i32 (-1))) 56 N (i32 (-1))) 57 N 0) j i = rd s j i := fun j i h1 h2 => by
      have hne : ∀ q, inL gro8 q = true → j ≠ q := fun q hq e => by rw [e, hq] at h1; cases h1
      rw [wr_nek (hne 57 rfl), wr_nek (hne 56 rfl), wr_nek (hne 55 rfl), wr_nek (hne 54 rfl), wr_nek (hne 53 rfl), wr_nek (hne 52 rfl), wr_nek (hne 51 rfl), rdne h2]
    have n8 : rd (wr (wr (wr (wr (wr (wr (wr (wr s 50 8 (i32 ((N + 1 : Nat) : Int))) 51 N (i32 k)) 52 N (i32 (-1))) 53 N x2) 54 N x3) 55 N (i32 (-1))) 56 N (i32 (-1))) 57 N 0) 50 8 = i32 ((N + 1 : Nat) : Int) := rfl
    have n51 : rd (wr (wr (wr (wr (wr (wr (wr (wr s 50 8 (i32 ((N + 1 : Nat) : Int))) 51 N (i32 k)) 52 N (i32 (-1))) 53 N x2) 54 N x3) 55 N (i32 (-1))) 56 N (i32 (-1))) 57 N 0) 51 N = i32 k := by
      rw [wr_nek (by decide), wr_nek (by decide), wr_nek (by decide), wr_nek (by decide), wr_nek (by decide), wr_nek (by decide), wr_self]
    have n52 : rd (wr (wr (wr (wr (wr (wr (wr (wr s 50 8 (i32 ((N + 1 : Nat) : Int))) 51 N (i32 k)) 52 N (i32 (-1))) 53 N x2) 54 N x3) 55 N (i32 (-1))) 56 N (i32 (-1))) 57 N 0) 52 N = i32 (-1) := by
      rw [wr_nek (by decide), wr_nek (by decide), wr_nek (by decide), wr_nek (by decide), wr_nek (by decide), wr_self]
    have n53 : rd (wr (wr (wr (wr (wr (wr (wr (wr s 50 8 (i32 ((N + 1 : Nat) : Int))) 51 N (i32 k)) 52 N (i32 (-1))) 53 N x2) 54 N x3) 55 N (i32 (-1))) 56 N (i32 (-1))) 57 N 0) 53 N = x2 := by
      rw [wr_nek (by decide), wr_nek (by decide), wr_nek (by decide), wr_nek (by decide), wr_self]
    have n54 : rd (wr (wr (wr (wr (wr (wr (wr (wr s 50 8 (i32 ((N + 1 : Nat) : Int))) 51 N (i32 k)) 52 N (i32 (-1))) 53 N x2) 54 N x3) 55 N (i32 (-1))) 56 N (i32 (-1))) 57 N 0) 54 N = x3 := by
      rw [wr_nek (by decide), wr_nek (by decide), wr_nek (by decide), wr_self]
    have n55 : rd (wr (wr (wr (wr (wr (wr (wr (wr s 50 8 (i32 ((N + 1 : Nat) : Int))) 51 N (i32 k)) 52 N (i32 (-1))) 53 N x2) 54 N x3) 55 N (i32 (-1))) 56 N (i32 (-1))) 57 N 0) 55 N = i32 (-1) := by
      rw [wr_nek (by decide), wr_nek (by decide), wr_self]
    have n57 : rd (wr (wr (wr (wr (wr (wr (wr (wr s 50 8 (i32 ((N + 1 : Nat) : Int))) 51 N (i32 k)) 52 N (i32 (-1))) 53 N x2) 54 N x3) 55 N (i32 (-1))) 56 N (i32 (-1))) 57 N 0) 57 N = 0 := wr_self _ _ _ _
    generalize wr (wr (wr (wr (wr (wr (wr (wr s 50 8 (i32 ((N + 1 : Nat) : Int))) 51 N (i32 k)) 52 N (i32 (-1))) 53 N x2) 54 N x3) 55 N (i32 (-1))) 56 N (i32 (-1))) 57 N 0 = s' at *
    have both : ∀ j i, i < N ∨ inL gro8 j = false → ¬ (j = 50 ∧ i = 8) → rd s' j i = rd σ j i := fun j i h1 h2 => by
      rcases h1 with h1 | h1
      · rw [old j i (by omega) h2, hf j i (.inl h1)]
      · rw [oth j i h1 h2, hf j i (.inr h1)]
    have lnO : ∀ j, inL gro8 j = false → ln s' j = ln σ j := fun j hj => (fW.ln j).trans (hg.2.2 j hj).1
    have g1 : ∀ x, x < N → (gAdd G N k a b).1 x = G.1 x ∧ (gAdd G N k a b).2.1 x = G.2.1 x ∧ (gAdd G N k a b).2.2 x = G.2.2 x := fun x hx => ⟨if_neg (by omega), if_neg (by omega), if_neg (by omega)⟩
    have g2 : (gAdd G N k a b).1 N = k ∧ (gAdd G N k a b).2.1 N = a ∧ (gAdd G N k a b).2.2 N = b := ⟨if_pos rfl, if_pos rfl, if_pos rfl⟩
    refine ⟨⟨n8, by omega, by rw [fW.ln]; omega, fun j h1 h2 => by rw [fW.ln, fW.ln]; exact hls j h1 h2, ?_, fun x hx => ⟨(a6 x (by omega)).1, by rw [show (gAdd G N k a b).1 x = G.1 x from if_neg (by omega)]; exact (a6 x (by omega)).2⟩, fun x hx => ?_, fun x => ?_⟩, ⟨?_, ?_, ?_, ?_, fun t ht hr => ?_, ?_⟩, ⟨?_, fun x hx => ?_⟩, hs.fr fW, ⟨both, ⟨?_, fun i hi => ?_⟩⟩⟩
    · obtain ⟨rk, h5⟩ := a5
      refine ⟨rk, fun x hx => ?_⟩
      by_cases e : x = N
      · subst e; exact ⟨by rw [rN]; omega, .inl ⟨n52, rN⟩⟩
      · obtain ⟨h6, h7⟩ := h5 x (by omega)
        refine ⟨by omega, ?_⟩
        rw [both 52 x (.inl (by omega)) (by omega)]
        rcases h7 with h7 | ⟨y, h8, h9⟩
        · exact .inl h7
        · exact .inr ⟨y, by omega, h9⟩
    · by_cases e : x = N
      · subst e
        rw [g2.1, g2.2.1, g2.2.2, n51, n53, n54]
        refine ⟨rfl, hk, fun h2 hq => ?_⟩
        obtain ⟨y1, y2, y3⟩ := hkid h2 hq
        exact ⟨y1, by omega, fun h3 => ⟨(y3 h3).1, by have := (y3 h3).2; omega⟩⟩
      · have hxN : x < N := by omega
        obtain ⟨y1, y2, y3⟩ := a7 x hxN
        rw [(g1 x hxN).1, (g1 x hxN).2.1, (g1 x hxN).2.2, both 51 x (.inl hxN) (by omega), both 53 x (.inl hxN) (by omega), both 54 x (.inl hxN) (by omega)]
        refine ⟨y1, y2, fun h2 hq => ?_⟩
        obtain ⟨y4, y5, y6⟩ := y3 h2 (hK x hxN hq)
        exact ⟨y4, by omega, fun h3 => ⟨(y6 h3).1, by have := (y6 h3).2; omega⟩⟩
    · by_cases e : x = N
      · rw [e, g2.1]; exact ⟨fun q => absurd q hk1, fun q => by omega⟩
      · rw [show (gAdd G N k a b).1 x = G.1 x from if_neg e]; exact a8 x
    · rw [both 50 11 (.inr rfl) (by decide)]; exact hH.1
    · rw [lnO 59 rfl]; exact hH.2.1
    · rw [lnO 59 rfl, lnO 60 rfl]; exact hH.2.2.1
    · intro i hi
      rw [both 59 i (.inr rfl) (by omega)]
      exact ⟨(hH.2.2.2.1 i hi).1, by have := (hH.2.2.2.1 i hi).2; omega⟩
    · by_cases e : t = N
      · subst e
        rw [hl0]
        exact ⟨n55, List.nodup_nil, fun i hi => (by cases hi), fun i hi => (by cases hi)⟩
      · obtain ⟨b1, b2, b3, b4⟩ := hH.2.2.2.2.1 t (by omega) hr
        rw [both 55 t (.inl (by omega)) (by omega), both 56 t (.inl (by omega)) (by omega)]
        exact ⟨b1.congr (fun i _ => both 60 i (.inr rfl) (by omega)), b2, b3, b4⟩
    · intro t t' i ht ht' hr hr' hi hi'
      by_cases e : t = N
      · rw [e, hl0] at hi; cases hi
      · by_cases e' : t' = N
        · rw [e', hl0] at hi'; cases hi'
        · exact hH.2.2.2.2.2 t t' i (by omega) (by omega) hr hr' hi hi'
    · rw [both 50 12 (.inr rfl) (by decide)]; exact hS.1
    · by_cases e : x = N
      · rw [e, n57]; exact ⟨0, Nat.zero_le _, rfl⟩
      · rw [both 57 x (.inl (by omega)) (by omega)]; exact hS.2 x (by omega)
    · refine ⟨fun j hj i => ?_, ?_, fun j hj => ⟨lnO j hj, (fW.rh j).trans (hg.2.2 j hj).2⟩⟩
      · have hj : (Nat.beq j 50 || inL gro8 j) = false := hj
        rw [Bool.or_eq_false_iff] at hj
        exact both j i (.inr hj.2) (fun q => by rw [q.1] at hj; exact absurd hj.1 (by decide))
      · exact (congrArg (fun z => z.1) fW.2).trans hg.2.1
    · exact both 50 i (.inr rfl) (fun q => by rw [q.2] at hi; cases hi)
  rw [e79_0 (d + 1), a1, i32_nat, c2_ne (by omega) (by omega) (by omega) (by omega)]
  by_cases q : N = ln σ 51
  · rw [c_f (by omega)]
    obtain ⟨s, g1, g2, g3, g4, g5⟩ := grow_c (L := L) (xs := xs) a1 q.symm (fun j h1 h2 => a4 j h1 h2) hR hN d jv
    rw [bV_ok g1]
    obtain ⟨σ', k1⟩ := key s g2 g4 g5 (fun j h1 h2 => by rw [g3 j h1 h2, g3 51 (by omega) (by omega)]) (by rw [g3 51 (by omega) (by omega)]; omega) (by rw [g3 51 (by omega) (by omega)]; omega)
    refine ⟨σ', ?_, k1.2⟩
    rw [← k1.1]
    exact (e79_16 (d + 1) s (i32 k) x2 x3 (dj v4)).trans (e79_16 (d + 1) s (i32 k) x2 x3 v4).symm
  · rw [c_t (by omega)]
    exact key σ hR (fun _ _ _ => rfl) frG.refl a4 (by omega) (by omega)
end ADC
