/-! REGIONS, THE MODEL: what is kept of numbers -/
section KEEPM
variable {L : Nat} {xs : Nat → Int32} {σ τ τ' τ0 : tvS} {D : pgD} {m f : Nat} {R : List Nat} {ow : Nat → Int}
/-- numbers of a function, so far -/
def KNM (f : Nat) (R : List Nat) (ow : Nat → Int) (k : Nat) (τ : tvS) : Prop :=
  rd τ 191 f = i32 ((nfil (fun k => ow k = -1) k).length : Int) ∧ (∀ i, i < (nfil (fun k => ow k = -1) k).length → rd τ 192 (64 * f + i) = i32 (((nfil (fun k => ow k = -1) k).getD i 0 : Nat) : Int)) ∧ ∀ i x : Nat, i < k → R[i]? = some x → rd τ 193 (64 * f + i + 1) = i32 (x : Int) ∧ rd τ 194 (64 * f + i + 1) = i32 (ow i)
def FKN : List Nat := [190, 191, 192, 193, 194]
def FKN4 : List Nat := [191, 192, 193, 194]
/-- what is of other functions stays -/
def oth (f : Nat) (τ τ' : tvS) : Prop := (∀ g, g ≠ f → rd τ' 190 g = rd τ 190 g ∧ rd τ' 191 g = rd τ 191 g) ∧ ∀ g i, g ≠ f → i < 64 → rd τ' 192 (64 * g + i) = rd τ 192 (64 * g + i) ∧ rd τ' 193 (64 * g + i) = rd τ 193 (64 * g + i) ∧ rd τ' 194 (64 * g + i) = rd τ 194 (64 * g + i)
theorem oth.trans {a b e : tvS} (h : oth f a b) (g : oth f b e) : oth f a e := ⟨fun k hk => ⟨(g.1 k hk).1.trans (h.1 k hk).1, (g.1 k hk).2.trans (h.1 k hk).2⟩, fun k i hk hi => ⟨(g.2 k i hk hi).1.trans (h.2 k i hk hi).1, (g.2 k i hk hi).2.1.trans (h.2 k i hk hi).2.1, (g.2 k i hk hi).2.2.trans (h.2 k i hk hi).2.2⟩⟩
theorem keepn_loop (hf : f ≤ 20) (hR60 : R.length ≤ 60) (h87 : rd τ0 123 87 = i32 (R.length : Int)) (h185 : ∀ k x : Nat, R[k]? = some x → rd τ0 185 k = i32 (x : Int)) (h186 : ∀ k, k < R.length → rd τ0 186 k = i32 (ow k) ∧ -2 ≤ ow k ∧ ow k < 4101) (d : Nat) : ∀ (j k : Nat) (τ : tvS), k + j = R.length → frM FKN4 [] τ0 τ → KNM f R ow k τ → oth f τ0 τ →
    ∃ (τ' : tvS), rn L xs (d + 1) 366 19 [.ref 123, .int (i32 (f : Int)), .int (i32 (k : Int))] [] τ = rn L xs (d + 1) 366 110 [.ref 123, .int (i32 (f : Int)), .int (i32 (R.length : Int))] [] τ' ∧ frM FKN4 [] τ0 τ' ∧ KNM f R ow R.length τ' ∧ oth f τ0 τ' := by
  intro j
  induction j with
  | zero =>
    intro k τ e w hK ho
    have e : k = R.length := by omega
    subst e
    refine ⟨τ, ?_, w, hK, ho⟩
    rw [e366_19, w.2 87 rfl, h87, c2_ge (by omega) (by omega) (by omega) (by omega), c_t (by omega)]
  | succ j ih =>
    intro k τ e w hK ho
    obtain ⟨x, hx⟩ : ∃ x, R[k]? = some x := ⟨R[k]'(by omega), List.getElem?_eq_getElem (by omega)⟩
    obtain ⟨o1, o2, o3⟩ := h186 k (by omega)
    have e185 : rd τ 185 k = i32 (x : Int) := (w.rd (j := 185) rfl k).trans (h185 k x hx)
    have e186 : rd τ 186 k = i32 (ow k) := (w.rd (j := 186) rfl k).trans o1
    have hlen := nfil_len (mk := fun k => ow k = -1) k
    have ei : 64 * i32 (f : Int) + i32 (k : Int) + 1 = i32 ((64 * f + k + 1 : Nat) : Int) := by
      rw [show (64 : Int32) = i32 64 from rfl, show (1 : Int32) = i32 1 from rfl, i32_mul, i32_add, i32_add]; congr 1
    obtain ⟨k1, k2, k3⟩ := id hK
    have eg : 64 * i32 (f : Int) + i32 ((nfil (fun k => ow k = -1) k).length : Int) = i32 ((64 * f + (nfil (fun k => ow k = -1) k).length : Nat) : Int) := by
      rw [show (64 : Int32) = i32 64 from rfl, i32_mul, i32_add]; congr 1
    obtain ⟨s1, es1⟩ : ∃ s1, s1 = wr (wr τ 193 (64 * f + k + 1) (i32 (x : Int))) 194 (64 * f + k + 1) (i32 (ow k)) := ⟨_, rfl⟩
    have w1 : frM [193, 194] [] τ s1 := by rw [es1]; exact (frM_wr rfl (by decide)).trans (frM_wr rfl (by decide))
    have h3 : ∀ i y : Nat, i < k + 1 → R[i]? = some y → rd s1 193 (64 * f + i + 1) = i32 (y : Int) ∧ rd s1 194 (64 * f + i + 1) = i32 (ow i) := fun i y hi hy => by
      rw [es1]
      by_cases q : i = k
      · rw [q] at hy ⊢
        rw [Option.some.inj (hy.symm.trans hx)]
        exact ⟨by rw [wr_nek (by decide), wr_self], by rw [wr_self]⟩
      · have := k3 i y (by omega) hy
        exact ⟨by rw [wr_nek (by decide), wr_nei (by omega)]; exact this.1, by rw [wr_nei (by omega), wr_nek (by decide)]; exact this.2⟩
    have oth1 : oth f τ s1 := by
      rw [es1]
      refine ⟨fun g _ => ⟨by rw [wr_nek (by decide), wr_nek (by decide)], by rw [wr_nek (by decide), wr_nek (by decide)]⟩, fun g i hg hi => ⟨by rw [wr_nek (by decide), wr_nek (by decide)], by rw [wr_nek (by decide), wr_nei (by omega)], by rw [wr_nei (by omega), wr_nek (by decide)]⟩⟩
    have head : rn L xs (d + 1) 366 19 [.ref 123, .int (i32 (f : Int)), .int (i32 (k : Int))] [] τ = cond (decide (¬ ow k = -1)) (rn L xs (d + 1) 366 104 [.ref 123, .int (i32 (f : Int)), .int (i32 (k : Int))] [] s1) (rn L xs (d + 1) 366 104 [.ref 123, .int (i32 (f : Int)), .int (i32 (k : Int))] [] (wr (wr s1 192 (64 * f + (nfil (fun k => ow k = -1) k).length) (i32 ((k + 1 : Nat) : Int))) 191 f (i32 (((nfil (fun k => ow k = -1) k).length + 1 : Nat) : Int)))) := by
      rw [e366_19, w.2 87 rfl, h87, c2_ge (by omega) (by omega) (by omega) (by omega), c_f (by omega), c_in (by omega) (by omega) (by omega), ei, c_in (by omega) (by omega) (by omega), c_in (by omega) (by omega) (by omega), c_in (by omega) (by omega) (by omega), c_in (by omega) (by omega) (by omega), i32_ixn (by omega), i32_ixn (by omega), e185, e186, i32_raw, c2_ne (by omega) (by omega) (by omega) (by omega), c_in (by omega) (by omega) (by omega), i32_ixn (by omega), k1, eg, c_in (by omega) (by omega) (by omega), c_in (by omega) (by omega) (by omega), c_in (by omega) (by omega) (by omega), i32_ixn (by omega), i32_up, i32_up, ← es1]
    by_cases q : ow k = -1
    · have hy := nfil_y (mk := fun k => ow k = -1) q
      obtain ⟨s2, es2⟩ : ∃ s2, s2 = wr (wr s1 192 (64 * f + (nfil (fun k => ow k = -1) k).length) (i32 ((k + 1 : Nat) : Int))) 191 f (i32 (((nfil (fun k => ow k = -1) k).length + 1 : Nat) : Int)) := ⟨_, rfl⟩
      have w2 : frM [191, 192] [] s1 s2 := by rw [es2]; exact (frM_wr rfl (by decide)).trans (frM_wr rfl (by decide))
      have oth2 : oth f s1 s2 := by
        rw [es2]
        refine ⟨fun g hg => ⟨by rw [wr_nek (by decide), wr_nek (by decide)], by rw [wr_nei hg, wr_nek (by decide)]⟩, fun g i hg hi => ⟨by rw [wr_nek (by decide), wr_nei (by omega)], by rw [wr_nek (by decide), wr_nek (by decide)], by rw [wr_nek (by decide), wr_nek (by decide)]⟩⟩
      obtain ⟨τ', z1, z2, z3, z4⟩ := ih (k + 1) s2 (by omega) (w.trans ((w1.sub rfl rfl).trans (w2.sub rfl rfl))) (by
        refine ⟨?_, fun i hi => ?_, fun i y hi hy => by rw [w2.rd (j := 193) rfl, w2.rd (j := 194) rfl]; exact h3 i y hi hy⟩
        · rw [es2, wr_self, hy, List.length_append]; rfl
        · rw [hy] at hi ⊢
          rw [List.length_append] at hi
          have hi : i < (nfil (fun k => ow k = -1) k).length + 1 := hi
          rw [es2, wr_nek (by decide)]
          by_cases g : i = (nfil (fun k => ow k = -1) k).length
          · rw [g, wr_self]
            have e3 : (nfil (fun k => ow k = -1) k ++ [k + 1]).getD (nfil (fun k => ow k = -1) k).length 0 = k + 1 := by
              rw [List.getD_eq_getElem?_getD, List.getElem?_append_right (Nat.le_refl _), Nat.sub_self]; rfl
            rw [e3]
          · have e3 : (nfil (fun k => ow k = -1) k ++ [k + 1]).getD i 0 = (nfil (fun k => ow k = -1) k).getD i 0 := by
              rw [List.getD_eq_getElem?_getD, List.getD_eq_getElem?_getD, List.getElem?_append_left (by omega)]
            rw [wr_nei (by omega), w1.rd (j := 192) rfl, e3]; exact k2 i (by omega)) (ho.trans (oth1.trans oth2))
      refine ⟨τ', ?_, z2, z3, z4⟩
      rw [head, decide_eq_false (fun h => h q), cond_false, ← es2, e366_104, i32_up]; exact z1
    · have hn := nfil_n (mk := fun k => ow k = -1) q
      obtain ⟨τ', z1, z2, z3, z4⟩ := ih (k + 1) s1 (by omega) (w.trans (w1.sub rfl rfl)) (by
        refine ⟨by rw [hn, w1.rd (j := 191) rfl]; exact k1, fun i hi => ?_, h3⟩
        rw [hn] at hi ⊢
        rw [w1.rd (j := 192) rfl]; exact k2 i hi) (ho.trans oth1)
      refine ⟨τ', ?_, z2, z3, z4⟩
      rw [head, decide_eq_true q, cond_true, e366_104, i32_up]; exact z1
end KEEPM
