/-! TYPING, THE COMPONENT: what a call is handed is kept -/
section KEEP
variable {L : Nat} {xs : Nat → Int32} {σ σ' : tvS}
/-- what is kept of calls -/
def KP (n : Nat) (ce : Nat → Nat) (σ : tvS) : Prop := rd σ 65 9 = i32 (n : Int) ∧ n ≤ ln σ 70 ∧ ∀ i, i < n → rd σ 70 i = i32 (ce i : Int)
def frK (σ σ' : tvS) : Prop := frG [65, 70] [70] σ σ' ∧ ∀ i, i ≠ 9 → rd σ' 65 i = rd σ 65 i
theorem frK.trans {a b e : tvS} (h : frK a b) (g : frK b e) : frK a e := ⟨h.1.trans g.1, fun i hi => (g.2 i hi).trans (h.2 i hi)⟩
theorem keep_c {K1 K2 n : Nat} {ce : Nat → Nat} (hR : ROOM K1 K2 σ) (h : KP n ce σ) (hn : n < 32768) (v : Nat) (d : Nat) :
    ∃ σ', rn L xs (d + 1) 145 0 [.ref 65, .int (i32 (v : Int))] [] σ = some (.inl none, σ') ∧ KP (n + 1) (upN ce n v) σ' ∧ ROOM K1 K2 σ' ∧ frK σ σ' := by
  obtain ⟨h1, h2, h3⟩ := h
  have hle := hR.le (k := 70) (M := 32768) (by decide)
  have key : ∀ s : tvS, ROOM K1 K2 s → rd s 65 9 = i32 (n : Int) → n < ln s 70 → ln s 70 ≤ 32768 → (∀ i, i < n → rd s 70 i = i32 (ce i : Int)) → frK σ s →
      ∃ σ', rn L xs (d + 1) 145 29 [.ref 65, .int (i32 (v : Int))] [] s = some (.inl none, σ') ∧ KP (n + 1) (upN ce n v) σ' ∧ ROOM K1 K2 σ' ∧ frK σ σ' := by
    intro s hs e hl hl2 hw hf
    rw [e145_29, e, c_in (by omega) (by omega) (by omega), i32_ixn (by omega)]
    refine ⟨_, rfl, ⟨?_, ?_, fun i hi => ?_⟩, hs.wr.wr, hf.trans ⟨(frG_wr rfl).trans (frG_wr rfl), fun i hi => by rw [wr_nei hi, wr_nek (by decide)]⟩⟩
    · rw [wr_self, show (1 : Int32) = i32 1 from rfl, i32_add]; rfl
    · show n + 1 ≤ ln s 70; omega
    · rw [wr_nek (by decide)]
      unfold upN
      by_cases q : i = n
      · rw [if_pos q, q, wr_self]
      · rw [if_neg q, wr_nei q]; exact hw i (by omega)
  rw [e145_0, h1, i32_nat, c2_ne (by omega) (by omega) (by omega) (by omega)]
  by_cases q : n = ln σ 70
  · rw [c_f (by omega)]
    have e2 : (2 : Int32) * i32 (n : Int) = i32 ((2 * ln σ 70 : Nat) : Int) := by rw [show (2 : Int32) = i32 2 from rfl, i32_mul, q]; congr 1
    obtain ⟨g1, g2, g3, g4⟩ := hR.grow (k := 70) (M := 32768) (by decide) (by omega) (by decide)
    rw [e2, g1, cond_true, i32_ixn (by omega)]
    exact key _ g2 (by rw [rd_gw, if_neg (by decide)]; exact h1) (by rw [ln_gw, if_pos rfl]; omega) (by rw [ln_gw, if_pos rfl]; omega) (fun i hi => by rw [rd_gw, if_pos rfl, if_pos (by omega)]; exact h3 i hi) ⟨frG_gw rfl rfl, fun i _ => by rw [rd_gw, if_neg (by decide)]⟩
  · rw [c_t (by omega)]
    exact key σ hR h1 (by omega) hle h3 ⟨frG.refl, fun _ _ => rfl⟩
theorem cpS.K {K1 K2 N0 S : Nat} {r : Nat → Nat} {N : Nat} {G : tG} {hl : Nat → List Nat} {hv : Nat → Nat} {H : Nat} {im : Nat → Nat} {SL cur W : List Nat} (h : cpS K1 K2 N0 S r N G hl hv H im SL cur W σ) (g : frK σ σ') (hR : ROOM K1 K2 σ') : cpS K1 K2 N0 S r N G hl hv H im SL cur W σ' := by
  obtain ⟨m1, m2, m3, m4, m5, m6, m7⟩ := h
  have w : frT [65, 70] [70] [] σ σ' := ⟨g.1.mono (fun k hk => by
    have hk : (Nat.beq k 50 || inL [65, 70] k) = false := hk
    rw [Bool.or_eq_false_iff] at hk; exact hk.2) (fun k hk => hk), fun i _ => g.1.1 50 rfl i⟩
  refine ⟨m1.T w rfl ⟨rfl, rfl, rfl, rfl⟩ (fun j h1 h2 => by
      have : j = 51 ∨ j = 52 ∨ j = 53 ∨ j = 54 ∨ j = 55 ∨ j = 56 ∨ j = 57 ∨ j = 58 := by omega
      rcases this with h | h | h | h | h | h | h | h <;> subst h <;> rfl), m2.T w rfl ⟨rfl, rfl, rfl, rfl⟩ ⟨rfl, rfl⟩, m3.T w rfl rfl, ⟨by rw [w.2 14 rfl]; exact m4.1, by rw [(w.1.2.2 61 rfl).1]; exact m4.2.1, m4.2.2.congr (fun i _ => w.rd (j := 61) rfl i)⟩, hR, fun t => by rw [w.rd (j := 57) rfl]; exact m6 t, fun t ht => by rw [w.rd (j := 58) rfl]; exact m7 t ht⟩
theorem KP.fr {n : Nat} {ce : Nat → Nat} {S T F : List Nat} (h : KP n ce σ) (g : frT S T F σ σ') (hS : inL S 65 = false ∧ inL S 70 = false) (hT : inL T 70 = false) : KP n ce σ' :=
  ⟨by rw [g.rd (j := 65) hS.1]; exact h.1, by rw [(g.1.2.2 70 hT).1]; exact h.2.1, fun i hi => by rw [g.rd (j := 70) hS.2]; exact h.2.2 i hi⟩
/-- copied and kept, one by one -/
def FCK : List Nat := [51, 52, 53, 54, 55, 56, 57, 58, 61, 65, 70]
theorem frK.T (g : frK σ σ') : frT FCK FCK [8, 14] σ σ' :=
  ⟨g.1.mono (fun k hk => by
    have hk : (Nat.beq k 50 || inL FCK k) = false := hk
    rw [Bool.or_eq_false_iff] at hk; exact inL_sub (S := [65, 70]) (T := FCK) rfl k hk.2) (inL_sub rfl), fun i _ => g.1.1 50 rfl i⟩
end KEEP
