/-! ROOM FOR WHAT GROWS -/
/-- what may grow, and how far -/
def gro : List (Nat × Nat) := [(40, 65536), (41, 65536), (51, 122880), (52, 122880), (53, 122880), (54, 122880), (55, 122880), (56, 122880), (57, 122880), (58, 122880), (59, 212992), (60, 212992), (61, 524288), (70, 32768), (73, 2048), (75, 32768), (76, 32768), (81, 2048), (82, 2048), (85, 65536), (93, 4096), (95, 131072)]
def gsum (σ : tvS) : List (Nat × Nat) → Nat
  | [] => 0
  | q :: r => 2 * (q.2 - ln σ q.1) + gsum σ r
def gcel (σ : tvS) : List (Nat × Nat) → Nat
  | [] => 0
  | q :: r => q.2 / ln σ q.1 + gcel σ r
def ROOM (K1 K2 : Nat) (σ : tvS) : Prop := (∀ q, q ∈ gro → ∃ e, ln σ q.1 * 2 ^ e = q.2) ∧ K1 + gcel σ gro ≤ (rm σ).2.1 ∧ K2 + gsum σ gro ≤ (rm σ).2.2
section ROOMS
variable {L : Nat} {xs : Nat → Int32} {σ σ' : tvS}
def frG (S T : List Nat) (σ σ' : tvS) : Prop := (∀ j, inL S j = false → ∀ i, rd σ' j i = rd σ j i) ∧ σ'.2.1 = σ.2.1 ∧ (∀ j, inL T j = false → ln σ' j = ln σ j ∧ rh σ' j = rh σ j)
theorem frW.G {S : List Nat} (T : List Nat) (h : frW S σ σ') : frG S T σ σ' := ⟨h.1, congrArg (fun z => z.1) h.2, fun j _ => ⟨h.ln j, h.rh j⟩⟩
theorem frG.refl {S T : List Nat} : frG S T σ σ := ⟨fun _ _ _ => rfl, rfl, fun _ _ => ⟨rfl, rfl⟩⟩
theorem frG.trans {S T : List Nat} {a b e : tvS} (h : frG S T a b) (g : frG S T b e) : frG S T a e :=
  ⟨fun j hj i => (g.1 j hj i).trans (h.1 j hj i), g.2.1.trans h.2.1, fun j hj => ⟨(g.2.2 j hj).1.trans (h.2.2 j hj).1, (g.2.2 j hj).2.trans (h.2.2 j hj).2⟩⟩
theorem frG.mono {S T S' T' : List Nat} {a b : tvS} (h : frG S T a b) (hs : ∀ k, inL S' k = false → inL S k = false) (ht : ∀ k, inL T' k = false → inL T k = false) : frG S' T' a b :=
  ⟨fun j hj i => h.1 j (hs j hj) i, h.2.1, fun j hj => h.2.2 j (ht j hj)⟩
theorem frG_wr {S T : List Nat} {k i : Nat} {x : Int32} (h : inL S k = true) : frG S T σ (wr σ k i x) := (frW_wr h).G T
theorem inL_sub {S T : List Nat} (h : (S.all fun k => inL T k) = true) (k : Nat) (hk : inL T k = false) : inL S k = false := by
  induction S with
  | nil => rfl
  | cons a r ih =>
    rw [List.all_cons, Bool.and_eq_true] at h
    show (Nat.beq k a || inL r k) = false
    rw [ih h.2]
    cases e : Nat.beq k a with
    | false => rfl
    | true => rw [← Nat.eq_of_beq_eq_true e, hk] at h; cases h.1
theorem frG.sub {S T S' T' : List Nat} {a b : tvS} (h : frG S T a b) (hs : (S.all fun k => inL S' k) = true) (ht : (T.all fun k => inL T' k) = true) : frG S' T' a b := h.mono (inL_sub hs) (inL_sub ht)
theorem frW.sub {S S' : List Nat} {a b : tvS} (h : frW S a b) (hs : (S.all fun k => inL S' k) = true) : frW S' a b := h.mono (inL_sub hs)
theorem ln_gw (σ : tvS) (k n j : Nat) : ln (gw σ k n) j = if j = k then n else ln σ j := rfl
theorem rm_gw (σ : tvS) (k n : Nat) : rm (gw σ k n) = ((rm σ).1 + 1, (rm σ).2.1 - 1, (rm σ).2.2 - n) := rfl
theorem frG_gw {S T : List Nat} {k n : Nat} (h : inL S k = true) (h' : inL T k = true) : frG S T σ (gw σ k n) :=
  ⟨fun j hj i => by rw [rd_gw, if_neg (fun q => by rw [q, h] at hj; cases hj)], rfl, fun j hj => by
    have : j ≠ k := fun q => by rw [q, h'] at hj; cases hj
    exact ⟨by rw [ln_gw, if_neg this], by rw [rh_gw, if_neg this]⟩⟩
theorem gsum_out {k n : Nat} : ∀ l : List (Nat × Nat), k ∉ l.map Prod.fst → gsum (gw σ k n) l = gsum σ l ∧ gcel (gw σ k n) l = gcel σ l := by
  intro l
  induction l with
  | nil => intro _; exact ⟨rfl, rfl⟩
  | cons q r ih =>
    intro h
    have h1 : q.1 ≠ k := fun e => h (by rw [List.map_cons, e]; exact List.mem_cons_self)
    have := ih (fun e => h (by rw [List.map_cons]; exact List.mem_cons_of_mem _ e))
    show 2 * (q.2 - ln (gw σ k n) q.1) + _ = _ ∧ q.2 / ln (gw σ k n) q.1 + _ = _
    rw [this.1, this.2, ln_gw, if_neg h1]
    exact ⟨rfl, rfl⟩
theorem gsum_in {k M : Nat} (h0 : 0 < ln σ k) {e : Nat} (he : ln σ k * 2 ^ (e + 1) = M) : ∀ l : List (Nat × Nat), (l.map Prod.fst).Nodup → (k, M) ∈ l →
    gsum (gw σ k (2 * ln σ k)) l + 2 * ln σ k = gsum σ l ∧ gcel (gw σ k (2 * ln σ k)) l + 1 ≤ gcel σ l := by
  intro l
  induction l with
  | nil => intro _ h; cases h
  | cons q r ih =>
    intro hd h
    rw [List.map_cons, List.nodup_cons] at hd
    by_cases hq : q.1 = k
    · have hq2 : q = (k, M) := by
        rcases List.mem_cons.mp h with h | h
        · exact h.symm
        · exact absurd (List.mem_map_of_mem (f := Prod.fst) h) (by rw [← hq]; exact hd.1)
      subst hq2
      have o := gsum_out (σ := σ) (n := 2 * ln σ k) r hd.1
      show 2 * (M - ln (gw σ k (2 * ln σ k)) k) + _ + _ = 2 * (M - ln σ k) + _ ∧ M / ln (gw σ k (2 * ln σ k)) k + _ + 1 ≤ M / ln σ k + _
      rw [o.1, o.2, ln_gw, if_pos rfl]
      have hp : 1 ≤ 2 ^ e := Nat.one_le_two_pow
      have hM : M = 2 * ln σ k * 2 ^ e := by rw [← he, Nat.pow_succ, Nat.mul_comm (2 ^ e) 2, ← Nat.mul_assoc, Nat.mul_comm (ln σ k) 2]
      have hM2 : 2 * ln σ k ≤ M := by
        rw [hM]; exact Nat.le_mul_of_pos_right _ hp
      have d1 : M / (2 * ln σ k) = 2 ^ e := by rw [hM]; exact Nat.mul_div_cancel_left _ (by omega)
      have d2 : M / ln σ k = 2 * 2 ^ e := by
        rw [hM, show 2 * ln σ k * 2 ^ e = ln σ k * (2 * 2 ^ e) from by rw [Nat.mul_comm 2 (ln σ k), Nat.mul_assoc]]; exact Nat.mul_div_cancel_left _ h0
      rw [d1, d2]
      omega
    · have hm : (k, M) ∈ r := by
        rcases List.mem_cons.mp h with h | h
        · rw [← h] at hq; exact absurd rfl hq
        · exact h
      have := ih hd.2 hm
      show 2 * (q.2 - ln (gw σ k (2 * ln σ k)) q.1) + _ + _ = 2 * (q.2 - ln σ q.1) + _ ∧ q.2 / ln (gw σ k (2 * ln σ k)) q.1 + _ + 1 ≤ q.2 / ln σ q.1 + _
      rw [ln_gw, if_neg hq]
      omega
theorem gro_nd : (gro.map Prod.fst).Nodup := by decide
theorem ROOM.fr {K1 K2 : Nat} {S : List Nat} (h : ROOM K1 K2 σ) (g : frW S σ σ') : ROOM K1 K2 σ' := by
  have e : ∀ l, gsum σ' l = gsum σ l ∧ gcel σ' l = gcel σ l := by
    intro l
    induction l with
    | nil => exact ⟨rfl, rfl⟩
    | cons q r ih =>
      show 2 * (q.2 - ln σ' q.1) + _ = _ ∧ q.2 / ln σ' q.1 + _ = _
      rw [ih.1, ih.2, g.ln]; exact ⟨rfl, rfl⟩
  refine ⟨fun q hq => by rw [g.ln]; exact h.1 q hq, ?_, ?_⟩
  · rw [(e gro).2, g.rm]; exact h.2.1
  · rw [(e gro).1, g.rm]; exact h.2.2
theorem ROOM.wr {K1 K2 k i : Nat} {x : Int32} (h : ROOM K1 K2 σ) : ROOM K1 K2 (wr σ k i x) := h.fr (S := [k]) (frW_wr (by simp [inL]))
/-- one that is not as long as it may be becomes longer -/
theorem ROOM.grow {K1 K2 k M : Nat} (h : ROOM K1 K2 σ) (hk : (k, M) ∈ gro) (hl : ln σ k < M) (hM : M ≤ 1000000) : gwOK σ k (i32 ((2 * ln σ k : Nat) : Int)) = true ∧ ROOM K1 K2 (gw σ k (2 * ln σ k)) ∧ 2 * ln σ k ≤ M ∧ 0 < ln σ k := by
  obtain ⟨h1, h2, h3⟩ := h
  obtain ⟨e, he⟩ := h1 _ hk
  have he : ln σ k * 2 ^ e = M := he
  have h0 : 0 < ln σ k := by
    rcases Nat.eq_zero_or_pos (ln σ k) with q | q
    · rw [q, Nat.zero_mul] at he; omega
    · exact q
  cases e with
  | zero => rw [Nat.pow_zero, Nat.mul_one] at he; omega
  | succ e =>
    have g := gsum_in h0 he gro gro_nd hk
    have hM2 : 2 * ln σ k ≤ M := by
      rw [← he, Nat.pow_succ, Nat.mul_comm (2 ^ e) 2, ← Nat.mul_assoc, Nat.mul_comm (ln σ k) 2]; exact Nat.le_mul_of_pos_right _ Nat.one_le_two_pow
    refine ⟨?_, ⟨fun q hq => ?_, ?_, ?_⟩, hM2, h0⟩
    · unfold gwOK
      have hi : ix (i32 ((2 * ln σ k : Nat) : Int)) = 2 * ln σ k := i32_ixn (by omega)
      rw [hi]
      simp only [Bool.and_eq_true, decide_eq_true_eq, Int32.lt_iff_toInt_lt, i32_ti (show -2147483648 ≤ ((2 * ln σ k : Nat) : Int) by omega) (show ((2 * ln σ k : Nat) : Int) < 2147483648 by omega)]
      exact ⟨by show ¬ _ < (0 : Int); omega, Nat.blt_eq.mpr (by omega), Nat.ble_eq_true_of_le (by omega), Nat.ble_eq_true_of_le (by omega), Nat.ble_eq_true_of_le (by omega)⟩
    · rw [ln_gw]
      by_cases e' : q.1 = k
      · rw [if_pos e']
        have hq2 : q.2 = M := by
          have a : ∀ l : List (Nat × Nat), (l.map Prod.fst).Nodup → q ∈ l → (k, M) ∈ l → q.2 = M := by
            intro l
            induction l with
            | nil => intro _ h; cases h
            | cons p r ih =>
              intro hd h1 h2
              rw [List.map_cons, List.nodup_cons] at hd
              rcases List.mem_cons.mp h1 with h1 | h1 <;> rcases List.mem_cons.mp h2 with h2 | h2
              · rw [h1, ← h2]
              · exact absurd (List.mem_map_of_mem (f := Prod.fst) h2) (by rw [← h1] at hd; rw [← e']; exact hd.1)
              · exact absurd (List.mem_map_of_mem (f := Prod.fst) h1) (by rw [← h2] at hd; rw [e']; exact hd.1)
              · exact ih hd.2 h1 h2
          exact a gro gro_nd hq hk
        exact ⟨e, by rw [hq2, ← he, Nat.pow_succ, Nat.mul_comm (2 ^ e) 2, ← Nat.mul_assoc, Nat.mul_comm (ln σ k) 2]⟩
      · rw [if_neg e']; exact h1 q hq
    · rw [rm_gw]; show _ ≤ (rm σ).2.1 - 1; omega
    · rw [rm_gw]; show _ ≤ (rm σ).2.2 - 2 * ln σ k; omega
theorem ROOM.le {K1 K2 k M : Nat} (h : ROOM K1 K2 σ) (hk : (k, M) ∈ gro) : ln σ k ≤ M := by
  obtain ⟨e, he⟩ := h.1 _ hk
  show _ ≤ (k, M).2
  rw [← he]; exact Nat.le_mul_of_pos_right _ Nat.one_le_two_pow
/-! the row of work -/
def wkL (σ : tvS) : List Int → Prop
  | [] => True
  | x :: r => rd σ 61 r.length = i32 x ∧ wkL σ r
def WK (W : List Int) (σ : tvS) : Prop := rd σ 50 14 = i32 (W.length : Int) ∧ W.length ≤ ln σ 61 ∧ wkL σ W
theorem wkL.congr : ∀ {W : List Int}, wkL σ W → (∀ i, i < W.length → rd σ' 61 i = rd σ 61 i) → wkL σ' W := by
  intro W
  induction W with
  | nil => intro _ _; exact trivial
  | cons x r ih =>
    intro h g
    exact ⟨by rw [g r.length (Nat.lt_succ_self _)]; exact h.1, ih h.2 (fun i hi => g i (Nat.lt_succ_of_lt hi))⟩
theorem WK.fr {S : List Nat} {W : List Int} (h : WK W σ) (g : frW S σ σ') (h1 : inL S 50 = false) (h2 : inL S 61 = false) : WK W σ' :=
  ⟨by rw [g.1 50 h1]; exact h.1, by rw [g.ln]; exact h.2.1, h.2.2.congr (fun i _ => g.1 61 h2 i)⟩
theorem push_c {K1 K2 : Nat} {W : List Int} (hR : ROOM K1 K2 σ) (h : WK W σ) (hW : W.length < 524288) (z : Int) (d : Nat) :
    ∃ σ', rn L xs (d + 1) 85 0 [.ref 50, .int (i32 z)] [] σ = some (.inl none, σ') ∧ WK (z :: W) σ' ∧ ROOM K1 K2 σ' ∧ (∀ j i, j ≠ 61 → ¬ (j = 50 ∧ i = 14) → rd σ' j i = rd σ j i) ∧ frG [50, 61] [61] σ σ' := by
  obtain ⟨h1, h2, h3⟩ := h
  have hle := hR.le (k := 61) (M := 524288) (by decide)
  have key : ∀ s : tvS, ROOM K1 K2 s → rd s 50 14 = i32 (W.length : Int) → W.length < ln s 61 → ln s 61 ≤ 524288 → wkL s W → (∀ j i, j ≠ 61 → rd s j i = rd σ j i) → frG [50, 61] [61] σ s →
      ∃ σ', rn L xs (d + 1) 85 29 [.ref 50, .int (i32 z)] [] s = some (.inl none, σ') ∧ WK (z :: W) σ' ∧ ROOM K1 K2 σ' ∧ (∀ j i, j ≠ 61 → ¬ (j = 50 ∧ i = 14) → rd σ' j i = rd σ j i) ∧ frG [50, 61] [61] σ σ' := by
    intro s hs e hl hl2 hw hf hg
    rw [e85_29, e, c_in (by omega) (by omega) (by omega), i32_ixn (by omega)]
    refine ⟨_, rfl, ⟨?_, ?_, ?_, ?_⟩, hs.wr.wr, ?_, hg.trans ((frG_wr rfl).trans (frG_wr rfl))⟩
    · rw [wr_self, show (1 : Int32) = i32 1 from rfl, i32_add]; rfl
    · show W.length + 1 ≤ ln s 61; omega
    · rw [wr_nek (by decide), wr_self]
    · exact hw.congr (fun i hi => by rw [wr_nek (by decide), wr_nei (by omega)])
    · intro j i hj hi
      rw [rdne hi, rdne (fun q => hj q.1)]; exact hf j i hj
  rw [e85_0, h1, i32_nat, c2_ne (by omega) (by omega) (by omega) (by omega)]
  by_cases q : W.length = ln σ 61
  · rw [c_f (by omega)]
    have e2 : (2 : Int32) * i32 (W.length : Int) = i32 ((2 * ln σ 61 : Nat) : Int) := by rw [show (2 : Int32) = i32 2 from rfl, i32_mul, q]; congr 1
    obtain ⟨g1, g2, g3, g4⟩ := hR.grow (k := 61) (M := 524288) (by decide) (by omega) (by decide)
    rw [e2, g1, cond_true, i32_ixn (by omega)]
    refine key _ g2 (by rw [rd_gw, if_neg (by decide)]; exact h1) (by rw [ln_gw, if_pos rfl]; omega) (by rw [ln_gw, if_pos rfl]; omega) (h3.congr (fun i hi => by rw [rd_gw, if_pos rfl, if_pos (by omega)])) (fun j i hj => by rw [rd_gw, if_neg hj]) (frG_gw rfl rfl)
  · rw [c_t (by omega)]
    exact key σ hR h1 (by omega) hle h3 (fun _ _ _ => rfl) frG.refl
theorem pop_c {x : Int} {W : List Int} (h : WK (x :: W) σ) (hl : ln σ 61 ≤ 1000000) (d : Nat) :
    rn L xs (d + 1) 87 0 [.ref 50] [] σ = some (.inl (some (.int (i32 x))), wr σ 50 14 (i32 (W.length : Int))) ∧ WK W (wr σ 50 14 (i32 (W.length : Int))) := by
  obtain ⟨h1, h2, h3, h4⟩ := h
  have h2 : W.length + 1 ≤ ln σ 61 := h2
  have e : rd σ 50 14 - 1 = i32 (W.length : Int) := by
    rw [h1, show (1 : Int32) = i32 1 from rfl, i32_sub]; congr 1; show ((W.length + 1 : Nat) : Int) - 1 = _; omega
  rw [e87_0, e, c_in (by omega) (by omega) (by omega), i32_ixn (by omega), h3]
  exact ⟨rfl, wr_self _ _ _ _, by show _ ≤ ln σ 61; omega, h4.congr (fun i _ => by rw [wr_nek (by decide)])⟩
end ROOMS
