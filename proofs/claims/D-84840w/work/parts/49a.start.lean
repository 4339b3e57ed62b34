/-! ALL FUNCTIONS: the start, both sides -/
section STARTT
variable {L : Nat} {xs : Nat → Int32} {σ τ : tvS} {K1 K2 m : Nat} {D : pgD} {cp : Nat → List (Nat × Nat)} {bS vs us sc : Nat → Nat} {cl : Nat → List Nat}
/-- one type, the int -/
def G1t : tG := (fun x => if x = 0 then 1 else 0, fun _ => 0, fun _ => 0)
def h0t : Nat → Nat → Prop := hC (fun _ => []) (fun _ => 0)
def T00 : tyJ := ((1, G1t, id, h0t, 0, 0), (1, G1t, id, h0t, 0, 0, 0), fun x y => x = 0 ∧ y = 0)
theorem G1t_1 (x : Nat) : G1t.1 x = 1 ↔ x = 0 := by
  show (if x = 0 then 1 else 0) = 1 ↔ x = 0
  by_cases c : x = 0
  · rw [if_pos c]; exact ⟨fun _ => c, fun _ => rfl⟩
  · rw [if_neg c]; exact ⟨fun h => (by omega), fun h => absurd h c⟩
theorem G1t_le (x : Nat) : G1t.1 x < 2 := by
  show (if x = 0 then 1 else 0) < 2
  split <;> omega
theorem G1t_0 {x : Nat} (h : 1 ≤ x) : G1t.1 x = 0 := if_neg (by omega)
theorem h0t_no (x u : Nat) : ¬ h0t x u := fun ⟨i, i1, _⟩ => by cases i1
theorem G1t_gP : gP G1t id := ⟨fun _ => rfl, fun _ _ => rfl, fun x y _ h => by have := G1t_le x; omega, ⟨fun _ => 0, 0, fun _ => Nat.le_refl _, fun _ _ _ => rfl, fun x h => by have := G1t_le x; omega⟩⟩
def FS0 : List Nat := [50, 51, 52, 53, 54, 55, 56, 57, 65, 74]
/-- the component's tables are cleared, and the int is there -/
theorem tstart_c (hR : RLQ K1 K2 σ) (d : Nat) :
    ∃ s1 : tvS, rn L xs (d + 4) 141 0 [.ref 65] [] σ = some (.inl none, s1) ∧ ∃ σ' : tvS, rn L xs (d + 4) 162 0 [.ref 74] [] s1 = some (.inl none, σ') ∧ CT K1 K2 1 G1t id h0t 0 0 σ' ∧ (rd σ' 65 9 = 0 ∧ rd σ' 65 13 = 0 ∧ rd σ' 74 7 = 0 ∧ rd σ' 74 14 = 0 ∧ rd σ' 74 18 = 0) ∧ frW FS0 σ σ' := by
  obtain ⟨⟨hRm, hL8⟩, hL60, hL76, hL82⟩ := hR
  obtain ⟨s0, es0⟩ : ∃ s0, s0 = wr (wr (wr σ 50 8 0) 50 11 0) 50 12 0 := ⟨_, rfl⟩
  have hb := hRm.le (k := 51) (M := 122880) (by decide)
  have hb1 : 1 ≤ ln σ 51 := by
    obtain ⟨e, he⟩ := hRm.1 (51, 122880) (by decide)
    have he : ln σ 51 * 2 ^ e = 122880 := he
    apply Classical.byContradiction
    intro q
    rw [show ln σ 51 = 0 by omega, Nat.zero_mul] at he; cases he
  have e8 : rd s0 50 8 = i32 ((0 : Nat) : Int) := by rw [es0, wr_nei (by decide), wr_nei (by decide), wr_self]; rfl
  have l0 : ∀ j, ln s0 j = ln σ j := fun j => by rw [es0]; rfl
  obtain ⟨s1, es1⟩ : ∃ s1, s1 = wr (wr (wr (wr (wr (wr (wr (wr s0 50 8 (i32 1)) 51 0 1) 52 0 (i32 (-1))) 53 0 (i32 (-1))) 54 0 (i32 (-1))) 55 0 (i32 (-1))) 56 0 (i32 (-1))) 57 0 0 := ⟨_, rfl⟩
  have p79 : rn L xs (d + 2) 79 0 [.ref 50, .int 1, .int (Int32.ofInt (-1)), .int (Int32.ofInt (-1)), jv] [] s0 = some (.inl (some (.int (i32 ((0 : Nat) : Int)))), s1) := by
    have hl : ∀ j, 51 ≤ j → j ≤ 57 → ln s0 j = ln σ 51 := fun j h1 h2 => by rw [l0, hL8 j h1 (by omega)]
    rw [e79_0, e8, i32_nat, l0, c2_ne (by omega) (by omega) (by omega) (by omega), c_t (by omega), e79_16, e8, hl 51 (by omega) (by omega), hl 52 (by omega) (by omega), hl 53 (by omega) (by omega), hl 54 (by omega) (by omega), hl 55 (by omega) (by omega), hl 56 (by omega) (by omega), hl 57 (by omega) (by omega), c_in (by omega) (by omega) (by omega), c_in (by omega) (by omega) (by omega), c_in (by omega) (by omega) (by omega), c_in (by omega) (by omega) (by omega), c_in (by omega) (by omega) (by omega), c_in (by omega) (by omega) (by omega), c_in (by omega) (by omega) (by omega), i32_ixn (by omega), i32_up, i32_raw, es1]; rfl
  have r1 : rn L xs (d + 4) 141 0 [.ref 65] [] σ = some (.inl none, wr (wr s1 65 9 0) 65 13 0) := by
    have p78 : rn L xs (d + 3) 78 0 [.ref 50] [] σ = some (.inl none, s1) := by
      rw [e78_0, ← es0, bI_ok p79]
    rw [e141_0, bV_ok p78]
  obtain ⟨s2, es2⟩ : ∃ s2, s2 = wr (wr (wr (wr (wr s1 65 9 0) 65 13 0) 74 7 0) 74 14 0) 74 18 0 := ⟨_, rfl⟩
  refine ⟨_, r1, s2, by rw [e162_0, es2], ?_, ?_, ?_⟩
  · have w12 : frW [65, 74] s1 s2 := by rw [es2]; exact (frW_wr rfl).trans ((frW_wr rfl).trans ((frW_wr rfl).trans ((frW_wr rfl).trans (frW_wr rfl))))
    have w01 : frW FS0 σ s1 := by
      rw [es1, es0]
      exact (frW_wr rfl).trans ((frW_wr rfl).trans ((frW_wr rfl).trans ((frW_wr rfl).trans ((frW_wr rfl).trans ((frW_wr rfl).trans ((frW_wr rfl).trans ((frW_wr rfl).trans ((frW_wr rfl).trans ((frW_wr rfl).trans (frW_wr rfl))))))))))
    have w02 : frW FS0 σ s2 := w01.trans (w12.mono (fun k hk => inL_sub (S := [65, 74]) (T := FS0) rfl k hk))
    have g8 : rd s2 50 8 = i32 ((1 : Nat) : Int) := by rw [w12.1 50 rfl, es1, wr_nek (by decide), wr_nek (by decide), wr_nek (by decide), wr_nek (by decide), wr_nek (by decide), wr_nek (by decide), wr_nek (by decide), wr_self]; rfl
    have g11 : rd s2 50 11 = i32 ((0 : Nat) : Int) := by rw [w12.1 50 rfl, es1, wr_nek (by decide), wr_nek (by decide), wr_nek (by decide), wr_nek (by decide), wr_nek (by decide), wr_nek (by decide), wr_nek (by decide), wr_nei (by decide), es0, wr_nei (by decide), wr_self]; rfl
    have g12 : rd s2 50 12 = i32 ((0 : Nat) : Int) := by rw [w12.1 50 rfl, es1, wr_nek (by decide), wr_nek (by decide), wr_nek (by decide), wr_nek (by decide), wr_nek (by decide), wr_nek (by decide), wr_nek (by decide), wr_nei (by decide), es0, wr_self]; rfl
    have g51 : rd s2 51 0 = i32 1 := by rw [w12.1 51 rfl, es1, wr_nek (by decide), wr_nek (by decide), wr_nek (by decide), wr_nek (by decide), wr_nek (by decide), wr_nek (by decide), wr_self]; rfl
    have g52 : rd s2 52 0 = i32 (-1) := by rw [w12.1 52 rfl, es1, wr_nek (by decide), wr_nek (by decide), wr_nek (by decide), wr_nek (by decide), wr_nek (by decide), wr_self]
    have g55 : rd s2 55 0 = i32 (-1) := by rw [w12.1 55 rfl, es1, wr_nek (by decide), wr_nek (by decide), wr_self]
    have g57 : rd s2 57 0 = i32 ((0 : Nat) : Int) := by rw [w12.1 57 rfl, es1, wr_self]; rfl
    have lz : ∀ j, ln s2 j = ln σ j := fun j => w02.ln j
    refine ⟨fun _ => [], fun _ => 0, ⟨g8, by omega, by rw [lz]; exact hb1, fun j h1 h2 => by rw [lz, lz]; exact hL8 j h1 h2, ⟨fun _ => 0, fun x hx => ?_⟩, fun x hx => ⟨rfl, G1t_0 hx⟩, fun x hx => ?_, G1t_1⟩, ⟨g11, Nat.zero_le _, by rw [lz, lz]; exact hL60, fun i hi => (by cases hi), fun t ht _ => ?_, fun t t' i _ _ _ _ hi => (by cases hi)⟩, fun t _ _ hn => absurd rfl hn, ⟨g12, fun x hx => ?_⟩, hRm.fr w02, G1t_gP, fun _ _ => rfl, rfl⟩
    · have : x = 0 := by omega
      subst this
      exact ⟨by show 0 < 1; omega, .inl ⟨g52, rfl⟩⟩
    · have : x = 0 := by omega
      subst this
      exact ⟨g51, by decide, fun h => absurd h (by decide)⟩
    · have : t = 0 := by omega
      subst this
      exact ⟨g55, List.nodup_nil, fun i hi => (by cases hi), fun i hi => (by cases hi)⟩
    · have : x = 0 := by omega
      subst this
      exact ⟨0, Nat.le_refl _, g57⟩
  · rw [es2]
    refine ⟨?_, ?_, ?_, ?_, ?_⟩
    · rw [wr_nek (by decide), wr_nek (by decide), wr_nek (by decide), wr_nei (by decide), wr_self]
    · rw [wr_nek (by decide), wr_nek (by decide), wr_nek (by decide), wr_self]
    · rw [wr_nei (by decide), wr_nei (by decide), wr_self]
    · rw [wr_nei (by decide), wr_self]
    · rw [wr_self]
  · rw [es2, es1, es0]
    exact (frW_wr rfl).trans ((frW_wr rfl).trans ((frW_wr rfl).trans ((frW_wr rfl).trans ((frW_wr rfl).trans ((frW_wr rfl).trans ((frW_wr rfl).trans ((frW_wr rfl).trans ((frW_wr rfl).trans ((frW_wr rfl).trans ((frW_wr rfl).trans ((frW_wr rfl).trans ((frW_wr rfl).trans ((frW_wr rfl).trans ((frW_wr rfl).trans (frW_wr rfl)))))))))))))))
/-- the model's numbers of types are cleared -/
theorem clear_m (d : Nat) (v2 : Value) : ∀ (j k : Nat) (τ : tvS), k + j = 100000 → ∃ τ' : tvS, rn L xs (d + 1) 284 113 [.ref 123, .int (i32 (k : Int)), v2] [] τ = rn L xs (d + 1) 284 132 [.ref 123, .int (i32 ((100000 : Nat) : Int)), v2] [] τ' ∧ (∀ t, k ≤ t → t < 100000 → rd τ' 184 t = 0) ∧ (∀ t, 100000 ≤ t ∨ t < k → rd τ' 184 t = rd τ 184 t) ∧ frM [184] [] τ τ' := by
  intro j
  induction j with
  | zero =>
    intro k τ e
    have e : k = 100000 := by omega
    subst e
    refine ⟨τ, ?_, fun t h1 h2 => by omega, fun _ _ => rfl, frM.refl⟩
    rw [e284_113, show (100000 : Int32) = i32 ((100000 : Nat) : Int) from rfl, c2_ge (by omega) (by omega) (by omega) (by omega), c_t (by omega)]
  | succ j ih =>
    intro k τ e
    obtain ⟨τ', a1, a2, a3, a4⟩ := ih (k + 1) (wr τ 184 k 0) (by omega)
    refine ⟨τ', ?_, fun t h1 h2 => ?_, fun t ht => ?_, (frM_wr rfl (by decide)).trans a4⟩
    · rw [e284_113, show (100000 : Int32) = i32 ((100000 : Nat) : Int) from rfl, c2_ge (by omega) (by omega) (by omega) (by omega), c_f (by omega), c_in (by omega) (by omega) (by omega), i32_ixn (by omega), i32_up]
      exact a1
    · by_cases q : t = k
      · rw [a3 t (.inr (by omega)), q, wr_self]
      · exact a2 t (by omega) h2
    · rw [a3 t (by omega), wr_nei (by omega)]
end STARTT
