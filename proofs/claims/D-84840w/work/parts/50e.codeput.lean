/-! CODE: words are put, numbers of types -/
section CODEPUT
variable {L : Nat} {xs : Nat → Int32} {σ σ' σ0 τ : tvS} {K1 K2 N f a : Nat} {C : tG} {c : Nat → Nat} {cf : Int} {D : pgD} {G : sgD} {rg : rgD} {m : Nat}
def FCD : List Nat := [52, 94, 95, 96, 97, 98, 99]
/-- in the midst of code -/
def CDS (K1 K2 N : Nat) (C : tG) (c : Nat → Nat) (f : Nat) (cf : Int) (a : Nat) (σ0 σ : tvS) : Prop :=
  TC N C c σ ∧ ROOM K1 K2 σ ∧ rd σ 94 4 = i32 (a : Int) ∧ a ≤ ln σ 95 ∧ rd σ 94 9 = i32 (f : Int) ∧ rd σ 94 10 = i32 cf ∧ frG FCD [95] σ0 σ ∧ ∀ i, i ≠ 4 → i ≠ 9 → i ≠ 10 → rd σ 94 i = rd σ0 94 i
/-- so far the row is as it was; slots are as they were, or told -/
def CEX (sl : Nat → Nat) (a : Nat) (σ σ' : tvS) : Prop := (∀ i, i < a → rd σ' 95 i = rd σ 95 i) ∧ (∀ v, rd σ' 99 v = rd σ 99 v ∨ rd σ' 99 v = i32 (sl v : Int)) ∧ ∀ j, j = 96 ∨ j = 97 ∨ j = 98 → ∀ i, rd σ' j i = rd σ j i
theorem CEX.refl {sl : Nat → Nat} : CEX sl a σ σ := ⟨fun _ _ => rfl, fun _ => .inl rfl, fun _ _ _ => rfl⟩
theorem CEX.trans {sl : Nat → Nat} {b : Nat} {s1 s2 s3 : tvS} (h : CEX sl a s1 s2) (g : CEX sl b s2 s3) (hab : a ≤ b) : CEX sl a s1 s3 := ⟨fun i hi => (g.1 i (by omega)).trans (h.1 i hi), fun v => by
  rcases g.2.1 v with k | k
  · rw [k]; exact h.2.1 v
  · exact .inr k, fun j hj i => (g.2.2 j hj i).trans (h.2.2 j hj i)⟩
theorem put_code {sl : Nat → Nat} (h : CDS K1 K2 N C c f cf a σ0 σ) (ha : a < 131072) (x : Int32) (d : Nat) :
    ∃ σ', rn L xs (d + 1) 199 0 [.ref 94, .int x] [] σ = some (.inl none, σ') ∧ CDS K1 K2 N C c f cf (a + 1) σ0 σ' ∧ rd σ' 95 a = x ∧ CEX sl a σ σ' ∧ (∀ v, rd σ' 99 v = rd σ 99 v) := by
  obtain ⟨h1, h2, h3, h4, h5, h6, h7, h8⟩ := h
  have hle := h2.le (k := 95) (M := 131072) (by decide)
  have key : ∀ s : tvS, TC N C c s → ROOM K1 K2 s → rd s 94 4 = i32 (a : Int) → a < ln s 95 → ln s 95 ≤ 131072 → (∀ i, i < a → rd s 95 i = rd σ 95 i) → (∀ j, j ≠ 95 → ∀ i, rd s j i = rd σ j i) → frG FCD [95] σ0 s →
      ∃ σ', rn L xs (d + 1) 199 29 [.ref 94, .int x] [] s = some (.inl none, σ') ∧ CDS K1 K2 N C c f cf (a + 1) σ0 σ' ∧ rd σ' 95 a = x ∧ CEX sl a σ σ' ∧ (∀ v, rd σ' 99 v = rd σ 99 v) := by
    intro s t1 t2 t3 t4 t5 t6 t7 t8
    have w : frW [94, 95] s (wr (wr s 95 a x) 94 4 (i32 ((a + 1 : Nat) : Int))) := (frW_wr rfl).trans (frW_wr rfl)
    refine ⟨wr (wr s 95 a x) 94 4 (i32 ((a + 1 : Nat) : Int)), ?_, ⟨t1.T (w.T [] [] rfl) rfl ⟨rfl, rfl, rfl, rfl⟩ (fun _ _ _ => rfl), t2.fr w, wr_self _ _ _ _, by rw [w.ln]; omega, ?_, ?_, t8.trans ((w.G [95]).sub rfl rfl), fun i i1 i2 i3 => ?_⟩, ?_, ⟨fun i hi => ?_, fun v => .inl ?_, fun j hj i => ?_⟩, fun v => ?_⟩
    · rw [e199_29, t3, c_in (by omega) (by omega) (by omega), i32_ixn (by omega), i32_up]
    · rw [wr_nei (by decide), wr_nek (by decide), t7 94 (by decide)]; exact h5
    · rw [wr_nei (by decide), wr_nek (by decide), t7 94 (by decide)]; exact h6
    · rw [wr_nei i1, wr_nek (by decide), t7 94 (by decide)]; exact h8 i i1 i2 i3
    · rw [wr_nek (by decide), wr_self]
    · rw [wr_nek (by decide), wr_nei (by omega)]; exact t6 i hi
    · rw [wr_nek (by decide), wr_nek (by decide), t7 99 (by decide)]
    · rw [wr_nek (by omega), wr_nek (by omega), t7 j (by omega)]
    · rw [wr_nek (by decide), wr_nek (by decide), t7 99 (by decide)]
  rw [e199_0, h3, i32_nat, c2_ne (by omega) (by omega) (by omega) (by omega)]
  by_cases q : a = ln σ 95
  · rw [c_f (by omega)]
    have e2 : (2 : Int32) * i32 (a : Int) = i32 ((2 * ln σ 95 : Nat) : Int) := by rw [show (2 : Int32) = i32 2 from rfl, i32_mul, q]; congr 1
    obtain ⟨g1, g2, g3, g4⟩ := h2.grow (k := 95) (M := 131072) (by decide) (by omega) (by decide)
    rw [e2, g1, cond_true, i32_ixn (by omega)]
    have wg : frG [95] [95] σ (gw σ 95 (2 * ln σ 95)) := frG_gw rfl rfl
    exact key _ (h1.T (S := [95]) (T := [95]) (F := []) ⟨wg.sub rfl rfl, fun i _ => wg.1 50 rfl i⟩ rfl ⟨rfl, rfl, rfl, rfl⟩ (fun j j1 j2 => by
      have : j = 51 ∨ j = 52 ∨ j = 53 ∨ j = 54 ∨ j = 55 ∨ j = 56 ∨ j = 57 ∨ j = 58 := by omega
      rcases this with h | h | h | h | h | h | h | h <;> subst h <;> rfl)) g2 (by rw [rd_gw, if_neg (by decide)]; exact h3) (by rw [ln_gw, if_pos rfl]; omega) (by rw [ln_gw, if_pos rfl]; omega) (fun i hi => by rw [rd_gw, if_pos rfl, if_pos (by omega)]) (fun j hj i => by rw [rd_gw, if_neg hj]) (h7.trans (wg.sub rfl rfl))
  · rw [c_t (by omega)]
    exact key σ h1 h2 h3 (by omega) hle (fun _ _ => rfl) (fun _ _ _ => rfl) h7
theorem put_two {sl : Nat → Nat} (h : CDS K1 K2 N C c f cf a σ0 σ) (ha : a + 1 < 131072) (x y : Int32) (d : Nat) :
    ∃ σ', rn L xs (d + 2) 200 0 [.ref 94, .int x, .int y] [] σ = some (.inl none, σ') ∧ CDS K1 K2 N C c f cf (a + 2) σ0 σ' ∧ rd σ' 95 a = x ∧ rd σ' 95 (a + 1) = y ∧ CEX sl a σ σ' ∧ (∀ v, rd σ' 99 v = rd σ 99 v) := by
  obtain ⟨s1, a1, a2, a3, a4, a5⟩ := put_code (L := L) (xs := xs) (sl := sl) h (by omega) x d
  obtain ⟨s2, b1, b2, b3, b4, b5⟩ := put_code (L := L) (xs := xs) (sl := sl) a2 ha y d
  refine ⟨s2, by rw [e200_0 (d + 1), bV_ok a1, bV_ok b1], b2, ?_, b3, a4.trans b4 (by omega), fun v => (b5 v).trans (a5 v)⟩
  rw [b4.1 a (by omega)]; exact a3
/-- tables of types are read: the row stays -/
theorem CDS.W (h : CDS K1 K2 N C c f cf a σ0 σ) (hT : TC N C c σ') (hR : ROOM K1 K2 σ') (w : frW [52] σ σ') : CDS K1 K2 N C c f cf a σ0 σ' := by
  obtain ⟨h1, h2, h3, h4, h5, h6, h7, h8⟩ := h
  exact ⟨hT, hR, by rw [w.1 94 rfl]; exact h3, by rw [w.ln]; exact h4, by rw [w.1 94 rfl]; exact h5, by rw [w.1 94 rfl]; exact h6, h7.trans ((w.G [95]).sub rfl rfl), fun i i1 i2 i3 => by rw [w.1 94 rfl]; exact h8 i i1 i2 i3⟩
/-- the number of a type in a function -/
theorem num_code {g fst k x : Nat} {bl : List Nat} (h : CDS K1 K2 N C c f cf a σ0 σ) (hg : g < 21) (hB : BOX g fst bl.length (fun i => bl.getD i 0) σ0) (hbl : ∀ y, y ∈ bl → y < N) (hnd : (bl.map c).Nodup) (hk : k < bl.length) (hx : x < N) (he : c (bl.getD k 0) = c x) (d : Nat) (v3 v4 : Value) :
    ∃ σ', rn L xs (d + 2) 167 0 [.ref 74, .int (i32 (g : Int)), .int (i32 (x : Int)), v3, v4] [] σ = some (.inl (some (.int (i32 ((k + 1 : Nat) : Int)))), σ') ∧ CDS K1 K2 N C c f cf a σ0 σ' ∧ frW [52] σ σ' := by
  have h0 := h
  obtain ⟨h1, h2, h3, h4, h5, h6, h7, h8⟩ := h
  have hN := h1.lt h2
  have hB' : BOX g fst bl.length (fun i => bl.getD i 0) σ := by
    obtain ⟨b1, b2, b3, b4, b5⟩ := hB
    exact ⟨by rw [h7.1 79 rfl]; exact b1, by rw [h7.1 80 rfl]; exact b2, by rw [(h7.2.2 81 rfl).1]; exact b3, by rw [(h7.2.2 81 rfl).1]; exact b4, fun i hi => by rw [h7.1 81 rfl]; exact b5 i hi⟩
  have gd : ∀ i, i < bl.length → bl.getD i 0 ∈ bl ∧ (bl.map c)[i]? = some (c (bl.getD i 0)) := fun i hi => by
    rw [List.getElem?_map, List.getD_eq_getElem?_getD, List.getElem?_eq_getElem hi]
    exact ⟨List.getElem_mem hi, rfl⟩
  obtain ⟨s1, res, a1, a2, a3, a4, a5⟩ := number_c (L := L) (xs := xs) hg (fun i hi => hbl _ (gd i hi).1) (by omega) hx h1 h2 hB' d v3 v4
  have hres : res = i32 ((k + 1 : Nat) : Int) := by
    rcases a2 with ⟨_, q⟩ | ⟨i, i1, i2, i3, _⟩
    · exact absurd he (q k hk)
    · rw [i2]
      have e1 := (gd i i1).2
      have e2 := (gd k hk).2
      have i3 : c (bl.getD i 0) = c x := i3
      rw [i3, ← he] at e1
      have := (List.getElem?_inj (by rw [List.length_map]; exact i1) hnd).mp (e1.trans e2.symm)
      rw [this]
  rw [hres] at a1
  exact ⟨s1, a1, h0.W a3 a4 a5, a5⟩
end CODEPUT
