/-! ALL FUNCTIONS: the state ahead of the first -/
section STARTU
variable {L : Nat} {xs : Nat → Int32} {σ τ : tvS} {K1 K2 m : Nat} {D : pgD} {cp : Nat → List (Nat × Nat)} {bS vs us sc : Nat → Nat} {cl : Nat → List Nat}
def FS1 : List Nat := [166, 167, 168, 169, 170, 171, 172, 183, 184]
theorem bud_start (hF : PGF D m) (hm : m ≤ 520) (htoc : 3 * toc D (D.fc + 1) ≤ m) : BDG (nB D 0) (uB D 0) (aB D 0) (rB D 0) T00 ∧ 100 * rB D 0 < 212000 ∧ 30 * rB D 0 ≤ 32768 := by
  have hb := hF.1
  have b0 := hF.2.1
  have e1 : nB D 0 ≤ 31100 := by unfold nB; omega
  have e2 : uB D 0 ≤ 6216 := by unfold uB; omega
  have e3 : aB D 0 ≤ 5622 := by unfold aB; omega
  have e4 : rB D 0 ≤ 346 := by unfold rB; omega
  have hc : ct (fun y => 2 ≤ G1t.1 y) 1 = 0 := rfl
  refine ⟨⟨?_, ?_, ?_, ?_, ?_, ?_, ?_⟩, by omega, by omega⟩
  · show 1 + nB D 0 + uB D 0 ≤ 122000; omega
  · show 0 + 100000 * aB D 0 ≤ 1000000000
    rw [Nat.zero_add]
    exact Nat.le_trans (Nat.mul_le_mul_left _ e3) (by decide)
  · show 1 + nB D 0 + uB D 0 + 64 * rB D 0 ≤ 99000; omega
  · show ct (fun y => 2 ≤ G1t.1 y) 1 + nB D 0 + 24 * rB D 0 ≤ 49990
    rw [hc]; omega
  · show 0 + 100 * rB D 0 ≤ 240000; omega
  · show 0 + 100001 * aB D 0 + rB D 0 ≤ 1000000000
    rw [Nat.zero_add]
    exact Nat.le_trans (Nat.add_le_add (Nat.mul_le_mul_left _ e3) e4) (by decide)
  · show 0 + 100001 * aB D 0 + 20000 * rB D 0 ≤ 1500000000
    rw [Nat.zero_add]
    exact Nat.le_trans (Nat.add_le_add (Nat.mul_le_mul_left _ e3) (Nat.mul_le_mul_left _ e4)) (by decide)
theorem tstart_m (h184 : ∀ t, 100000 ≤ t → rd τ 184 t = 0) (d : Nat) (v1 v2 : Value) :
    ∃ τ' : tvS, rn L xs (d + 2) 284 76 [.ref 123, v1, v2] [] τ = rn L xs (d + 2) 284 142 [.ref 123, .int (i32 ((0 : Nat) : Int)), .int (i32 ((0 : Nat) : Int))] [] τ' ∧ MY 1 G1t id h0t 0 0 0 τ' ∧ (rd τ' 123 82 = 0 ∧ rd τ' 123 103 = 0 ∧ rd τ' 123 107 = 0) ∧ (∀ t, 1 ≤ t → rd τ' 184 t = 0) ∧ frM FS1 [63, 72, 73, 82, 84, 103, 107] τ τ' := by
  obtain ⟨s0, es0⟩ : ∃ s0, s0 = wr (wr (wr (wr (wr (wr (wr τ 123 63 0) 123 72 0) 123 84 0) 123 73 0) 123 82 0) 123 103 0) 123 107 0 := ⟨_, rfl⟩
  have w0 : frM FS1 [63, 72, 73, 82, 84, 103, 107] τ s0 := by
    rw [es0]
    exact (frM_w rfl).trans ((frM_w rfl).trans ((frM_w rfl).trans ((frM_w rfl).trans ((frM_w rfl).trans ((frM_w rfl).trans (frM_w rfl))))))
  obtain ⟨s1, a1, a2, a3, a4⟩ := clear_m (L := L) (xs := xs) (d + 1) v2 100000 0 s0 (by omega)
  have r63 : rd s1 123 63 = i32 ((0 : Nat) : Int) := by rw [a4.2 63 rfl, es0]; simp [wr_nei, wr_self]; rfl
  have r72 : rd s1 123 72 = i32 ((0 : Nat) : Int) := by rw [a4.2 72 rfl, es0]; simp [wr_nei, wr_self]; rfl
  have r84 : rd s1 123 84 = i32 ((0 : Nat) : Int) := by rw [a4.2 84 rfl, es0]; simp [wr_nei, wr_self]; rfl
  have r73 : rd s1 123 73 = i32 ((0 : Nat) : Int) := by rw [a4.2 73 rfl, es0]; simp [wr_nei, wr_self]; rfl
  have r82 : rd s1 123 82 = 0 := by rw [a4.2 82 rfl, es0]; simp [wr_nei, wr_self]
  have r103 : rd s1 123 103 = 0 := by rw [a4.2 103 rfl, es0]; simp [wr_nei, wr_self]
  have r107 : rd s1 123 107 = 0 := by rw [a4.2 107 rfl, es0]; simp [wr_nei, wr_self]
  obtain ⟨s2, es2⟩ : ∃ s2, s2 = wr (wr (wr (wr (wr (wr (wr (wr (wr s1 166 0 1) 167 0 (i32 (-1))) 168 0 (i32 (-1))) 169 0 (i32 ((0 : Nat) : Int))) 170 0 (i32 (-1))) 171 0 0) 172 0 0) 183 0 0) 123 63 (i32 ((1 : Nat) : Int)) := ⟨_, rfl⟩
  have w2 : frM FS1 [63, 72, 73, 82, 84, 103, 107] s1 s2 := by
    rw [es2]
    exact (frM_wr rfl (by decide)).trans ((frM_wr rfl (by decide)).trans ((frM_wr rfl (by decide)).trans ((frM_wr rfl (by decide)).trans ((frM_wr rfl (by decide)).trans ((frM_wr rfl (by decide)).trans ((frM_wr rfl (by decide)).trans ((frM_wr rfl (by decide)).trans (frM_w rfl))))))))
  have p331 : rn L xs (d + 1) 331 0 [.ref 123, .int 1, .int (Int32.ofInt (-1)), .int (Int32.ofInt (-1)), jv] [] s1 = some (.inl (some (.int (i32 ((0 : Nat) : Int)))), s2) := by
    rw [e331_0, r63, show (100000 : Int32) = i32 ((100000 : Nat) : Int) from rfl, c2_ge (by omega) (by omega) (by omega) (by omega), c_f (by omega), e331_19, c_in (by omega) (by omega) (by omega), c_in (by omega) (by omega) (by omega), c_in (by omega) (by omega) (by omega), c_in (by omega) (by omega) (by omega), c_in (by omega) (by omega) (by omega), c_in (by omega) (by omega) (by omega), c_in (by omega) (by omega) (by omega), c_in (by omega) (by omega) (by omega), i32_ixn (by omega), i32_up, i32_raw, es2]
  have fld : ∀ i, i ≠ 63 → rd s2 123 i = rd s1 123 i := fun i hi => by
    rw [es2, wr_nei hi, wr_nek (by decide), wr_nek (by decide), wr_nek (by decide), wr_nek (by decide), wr_nek (by decide), wr_nek (by decide), wr_nek (by decide), wr_nek (by decide)]
  have g184 : ∀ t, rd s2 184 t = rd s1 184 t := fun t => by
    rw [es2, wr_nek (by decide), wr_nek (by decide), wr_nek (by decide), wr_nek (by decide), wr_nek (by decide), wr_nek (by decide), wr_nek (by decide), wr_nek (by decide), wr_nek (by decide)]
  have g63 : rd s2 123 63 = i32 ((1 : Nat) : Int) := by rw [es2, wr_self]
  have g166 : rd s2 166 0 = i32 ((1 : Nat) : Int) := by rw [es2]; simp [wr_nek, wr_self]; rfl
  have g169 : rd s2 169 0 = i32 ((0 : Nat) : Int) := by rw [es2]; simp [wr_nek, wr_self]
  have g170 : rd s2 170 0 = i32 (-1) := by rw [es2]; simp [wr_nek, wr_self]
  have g171 : rd s2 171 0 = i32 ((0 : Nat) : Int) := by rw [es2]; simp [wr_nek, wr_self]; rfl
  have g172 : rd s2 172 0 = i32 ((0 : Nat) : Int) := by rw [es2]; simp [wr_nek, wr_self]; rfl
  have g183 : rd s2 183 0 = i32 ((0 : Nat) : Int) := by rw [es2]; simp [wr_nek, wr_self]; rfl
  refine ⟨s2, ?_, ⟨fun _ => [], fun _ => 0, ⟨⟨g63, by omega, by omega, ⟨fun _ => 0, fun x hx => ?_⟩, fun x hx => ⟨rfl, G1t_0 hx⟩, fun x hx => ?_, G1t_1⟩, ⟨by rw [fld 73 (by decide)]; exact r73, Nat.zero_le _, fun i hi => (by cases hi), fun t ht _ => ?_, fun t t' i _ _ _ _ hi => (by cases hi)⟩, fun t _ _ hn => absurd rfl hn, ⟨by rw [fld 72 (by decide)]; exact r72, fun x hx => ?_⟩, by rw [fld 84 (by decide)]; exact r84, fun x hx => ?_⟩, G1t_gP, fun _ _ => rfl, rfl⟩, ⟨by rw [fld 82 (by decide)]; exact r82, by rw [fld 103 (by decide)]; exact r103, by rw [fld 107 (by decide)]; exact r107⟩, fun t ht => ?_, w0.trans ((a4.sub rfl rfl).trans w2)⟩
  · have a1' : rn L xs (d + 2) 284 113 [.ref 123, .int 0, v2] [] s0 = rn L xs (d + 2) 284 132 [.ref 123, .int (i32 ((100000 : Nat) : Int)), v2] [] s1 := a1
    rw [e284_76, ← es0, a1', e284_132 (d + 1), bI_ok p331]; rfl
  · have : x = 0 := by omega
    subst this
    exact ⟨by show 0 < 1; omega, .inl ⟨g169, rfl⟩⟩
  · have : x = 0 := by omega
    subst this
    exact ⟨g166, by decide, fun h => absurd h (by decide)⟩
  · have : t = 0 := by omega
    subst this
    exact ⟨g170, List.nodup_nil, fun i hi => (by cases hi)⟩
  · have : x = 0 := by omega
    subst this
    exact ⟨⟨0, Nat.le_refl _, g171⟩, ⟨0, Nat.le_refl _, g172⟩⟩
  · have : x = 0 := by omega
    subst this
    exact ⟨0, Nat.le_refl _, g183⟩
  · rw [g184]
    by_cases q : t < 100000
    · exact a2 t (by omega) q
    · rw [a3 t (.inl (by omega)), es0]
      simp only [wr_nek (show (184 : Nat) ≠ 123 by decide)]
      exact h184 t (by omega)
/-- ahead of the first function -/
theorem TYB.start (hF : PGF D m) (hm : m ≤ 520) (htoc : 3 * toc D (D.fc + 1) ≤ m) (hR : RLQ K1 K2 σ) (hP : PGR D σ τ) (hGc : RGC D m cp σ) (hGm : RGM D bS vs us sc cl σ τ) (hGv : RGV D m σ τ) (h5 : rd τ 123 5 = 0) (h13 : ∀ l, l < m → rd σ 13 l = rd τ 127 l ∧ rd σ 13 l ≠ i32 (-1)) (h184 : ∀ t, 100000 ≤ t → rd τ 184 t = 0) (d dm : Nat) (v1 v2 : Value) :
    ∃ s1 : tvS, rn L xs (d + 4) 141 0 [.ref 65] [] σ = some (.inl none, s1) ∧ ∃ σ' τ' : tvS, rn L xs (d + 4) 162 0 [.ref 74] [] s1 = some (.inl none, σ') ∧ rn L xs (dm + 2) 284 76 [.ref 123, v1, v2] [] τ = rn L xs (dm + 2) 284 142 [.ref 123, .int (i32 ((0 : Nat) : Int)), .int (i32 ((0 : Nat) : Int))] [] τ' ∧ TYB D m K1 K2 cp bS vs us sc cl 0 (fun _ => 0, fun _ => 0, fun _ _ => 0, fun _ _ => 0) (fun _ _ => False) (fun _ _ => False) (fun _ => T00) (fun _ => T00) T00 σ' τ' ∧ frW FS0 σ σ' ∧ frM FS1 [63, 72, 73, 82, 84, 103, 107] τ τ' := by
  obtain ⟨s1, a1, σ', a2, a3, ⟨a4, a5, a6, a7, a8⟩, a9⟩ := tstart_c (L := L) (xs := xs) hR d
  obtain ⟨τ', b1, b2, ⟨b3, b4, b5⟩, b6, b7⟩ := tstart_m (L := L) (xs := xs) h184 dm v1 v2
  obtain ⟨hbd, hH, hK⟩ := bud_start hF hm htoc
  obtain ⟨⟨hRm, hL8⟩, hL60, hL76, hL82⟩ := hR
  have hf1 : FB1 1 1 G1t id h0t 0 (fun _ _ => False) := ⟨by omega, Nat.le_refl _, fun x hx => hx, fun x hx => .inl hx, fun x hx hk => by have := G1t_le x; omega, fun g hg => (by cases hg), fun x u _ hu => absurd hu (h0t_no _ _), fun x u _ hu => absurd hu (h0t_no _ _)⟩
  have hz : JZ 1 G1t id h0t 1 G1t id h0t (fun x y => x = 0 ∧ y = 0) := by
    refine ⟨⟨fun x y x' y' h h' => ?_, fun x y x' y' h h1 h2 => ?_, fun x y h => ?_, fun x y h hk => ?_⟩, ⟨fun x y u _ hu => absurd hu (h0t_no _ _), fun x y u _ hu => absurd hu (h0t_no _ _)⟩, fun x y h => by omega, ⟨rfl, rfl⟩⟩
    · show x = x' ↔ y = y'
      omega
    · have h1 : x' = x := h1
      have h2 : y' = y := h2
      omega
    · show G1t.1 x = G1t.1 y
      rw [h.1, h.2]
    · have hk : 2 ≤ G1t.1 x := hk
      have := G1t_le x; omega
  have ec : ∀ j, inL FS0 j = false → ∀ i, rd σ' j i = rd σ j i := fun j hj i => a9.1 j hj i
  have em : ∀ j, inL (123 :: FS1) j = false → ∀ i, rd τ' j i = rd τ j i := fun j hj i => b7.rd hj i
  refine ⟨s1, a1, σ', τ', a2, b1, ⟨⟨⟨a3, b2, hz⟩, hf1, hf1, ⟨fun e he => (by cases he), List.Pairwise.nil⟩, hbd⟩, hP.to (fun j hj i => ec j (inL_off (S' := FS0) (by decide) j hj) i) (fun j hj i => em j (inL_off (S' := 123 :: FS1) (by decide) j hj) i), fun g hg => (by cases hg), fun g hg => (by cases hg), ⟨0, fun _ => 0, ⟨a4, Nat.zero_le _, fun i hi => (by cases hi)⟩, by omega⟩, ⟨0, fun _ => 0, ⟨b3, by omega, fun i hi => (by cases hi)⟩, by omega⟩, by show 0 + 100 * rB D 0 < 212000; omega, ⟨hGc.to (fun j hj i => ec j (inL_off (S' := FS0) (by decide) j hj) i) ⟨a9.ln 40, a9.ln 41⟩, hGm.to (fun i => ec 43 rfl i) (fun j hj i => em j (inL_off (S' := 123 :: FS1) (by decide) j hj) i), hGv.to (fun i => ec 15 rfl i) (fun i => ec 30 rfl i) (fun i => em 146 rfl i)⟩, ⟨(b7.2 5 rfl).trans h5, fun l hl => by rw [ec 13 rfl, em 127 rfl]; exact h13 l hl⟩, ⟨0, fun _ => 0, ⟨a6, Nat.zero_le _, by rw [a9.ln, a9.ln]; exact hL76, fun i hi => (by cases hi)⟩, fun i hi => (by cases hi), Nat.zero_le _⟩, ⟨0, ⟨a7, Nat.zero_le _, by rw [a9.ln, a9.ln]; exact hL82⟩, Nat.zero_le _⟩, b6, ⟨0, a8, Nat.zero_le _, Nat.zero_le _⟩, ⟨0, a5, Nat.zero_le _, Nat.zero_le _, fun g hg => (by cases hg)⟩, ⟨0, b4, Nat.zero_le _⟩, ⟨0, b5, Nat.zero_le _⟩, fun g hg => (by cases hg)⟩, a9, b7⟩
end STARTU
