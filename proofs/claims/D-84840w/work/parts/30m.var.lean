/-! READING: a variable stands here -/
section VLEAF
variable {L : Nat} {xs : Nat → Int32} {K1 K2 m : Nat} {μ : Nat → Nat} {g fc : Nat} {sc : List Nat} {fs fs' : List (Nat × Nat × List Nat)} {F D H n A P r r0 : Nat} {σ τ σ' τ' σ1 τ1 : tvS}
theorem fst_inj3 : ∀ (l : List (Nat × Nat × List Nat)), (l.map Prod.fst).Nodup → ∀ a b, a ∈ l → b ∈ l → a.1 = b.1 → a = b := by
  intro l
  induction l with
  | nil => intro _ a b ha; cases ha
  | cons q r ih =>
    intro hd a b ha hb e
    rw [List.map_cons, List.nodup_cons] at hd
    rcases List.mem_cons.mp ha with h1 | h1 <;> rcases List.mem_cons.mp hb with h2 | h2
    · rw [h1, h2]
    · subst h1
      exact absurd (by rw [e]; exact List.mem_map_of_mem h2) hd.1
    · subst h2
      exact absurd (by rw [← e]; exact List.mem_map_of_mem h1) hd.1
    · exact ih hd.2 a b h1 h2 e
theorem capW_mem {p0 : Nat} {l : List Nat} : ∀ k, ∀ u, u ∈ capW σ p0 k l → u ∈ l := by
  intro k
  induction k with
  | zero => intro u hu; cases hu
  | succ k ih =>
    intro u hu
    unfold capW at hu
    by_cases q : rd σ 16 (p0 + k) = i32 2 ∧ ix (rd σ 27 (p0 + k)) ∈ l ∧ ix (rd σ 27 (p0 + k)) ∉ capW σ p0 k l
    · rw [if_pos q] at hu
      rcases List.mem_append.mp hu with h | h
      · exact ih u h
      · rw [List.mem_singleton.mp h]; exact q.2.1
    · rw [if_neg q] at hu
      exact ih u hu
/-- what is captured, when one more part is a variable -/
theorem CAPI.var {v C C' : Nat} {cp cp' : Nat → List (Nat × Nat)} (h : CAPI F C P cp sc fs σ) (hv : v < 4101) (n2 : rd σ' 16 P = i32 2) (n27 : rd σ' 27 P = i32 v) (hF : F ≤ 4101)
    (hC : ∀ j i, ¬ (i = P ∧ 16 ≤ j ∧ j ≤ 28) → ¬ (j = 15 ∧ (i = 13 ∨ i = 29)) → ¬ (37 ≤ j ∧ j ≤ 41) → scC j i = false → rd σ' j i = rd σ j i)
    (h1 : CAPS F C' cp' σ') (h2 : capN fs v cp cp') (h3 : ∀ f, f < F → ∀ q, q ∈ cp' f → q.2 < 4101) : CAPI F C' (P + 1) cp' sc fs σ' := by
  obtain ⟨b1, b2, b3, b4, b5, b6, b7, b8, b9⟩ := h
  have hc : ∀ j i, i < P → 16 ≤ j → j ≤ 28 → rd σ' j i = rd σ j i := fun j i h1 h3 h4 => hC j i (by omega) (by omega) (by omega) (scC_lo (by omega))
  have hw : ∀ p0 k l, p0 + k ≤ P → capW σ' p0 k l = capW σ p0 k l := fun p0 k l hk => capW.congr _ (fun i hi => ⟨hc 16 i (by omega) (by omega) (by omega), hc 27 i (by omega) (by omega) (by omega)⟩)
  have hch : ∀ l x, chC σ l x → chC σ' l x := fun l x hx => hx.congr _ _ (fun v _ => ⟨hC 33 v (by omega) (by omega) (by omega) rfl, hC 32 v (by omega) (by omega) (by omega) rfl⟩)
  refine ⟨h1, ?_, b3, b4, fun e he => ?_, fun v hv => by rw [hC 31 v (by omega) (by omega) (by omega) rfl]; exact b6 v hv, h3, fun p hp hk => ?_, fun f hf => ?_⟩
  · rw [hC 62 6 (by omega) (by omega) (by omega) rfl]; exact b2.congr _ _ (fun e _ => hC 34 e.1 (by omega) (by omega) (by omega) rfl)
  · obtain ⟨c1, c2, c3, c4⟩ := b5 e he
    refine ⟨c1, by omega, c3, ?_⟩
    rw [show P + 1 - e.2.1 = (P - e.2.1) + 1 by omega]
    show _ = if rd σ' 16 (e.2.1 + (P - e.2.1)) = i32 2 ∧ ix (rd σ' 27 (e.2.1 + (P - e.2.1))) ∈ e.2.2 ∧ ix (rd σ' 27 (e.2.1 + (P - e.2.1))) ∉ capW σ' e.2.1 (P - e.2.1) e.2.2 then capW σ' e.2.1 (P - e.2.1) e.2.2 ++ [ix (rd σ' 27 (e.2.1 + (P - e.2.1)))] else capW σ' e.2.1 (P - e.2.1) e.2.2
    rw [show e.2.1 + (P - e.2.1) = P by omega, hw _ _ _ (by omega), n27, i32_ixn (by omega), ← c4]
    by_cases q : v ∈ e.2.2
    · rw [(h2 e.1).1 ⟨e, he, rfl, q⟩]
      by_cases q2 : v ∈ (cp e.1).map Prod.snd
      · rw [if_pos q2, if_neg (fun z => z.2.2 q2)]
      · rw [if_neg q2, if_pos ⟨n2, q, q2⟩]
    · rw [(h2 e.1).2 (fun ⟨e', g1, g2, g3⟩ => q (by rw [← fst_inj3 fs b4 e' e g1 he g2]; exact g3)), if_neg (fun z => q z.2.1)]
  · have hp' : p < P := by
      apply Classical.byContradiction
      intro q
      rw [show p = P by omega, n2] at hk
      exact absurd hk (by decide)
    rw [hc 16 p hp' (by omega) (by omega)] at hk
    obtain ⟨f, s, l, c1, c2, c3, c4, c5, c6, c7⟩ := b8 p hp' hk
    refine ⟨f, s, l, by rw [hc 27 p hp' (by omega) (by omega)]; exact c1, c2, c3, by rw [hc 26 p hp' (by omega) (by omega)]; exact c4, c5, by rw [hc 28 p hp' (by omega) (by omega)]; exact hch _ _ c6, ?_⟩
    rw [(h2 f).2 (fun ⟨e', g1, g2, g3⟩ => c3 (by rw [← g2]; exact List.mem_map_of_mem g1)), c7, hw _ _ _ (by omega)]
  · rcases b9 f hf with e | ⟨p, c1, c2, c3, c4⟩
    · exact Or.inl e
    · exact Or.inr ⟨p, by omega, by rw [hc 16 p c1 (by omega) (by omega)]; exact c2, by rw [hc 27 p c1 (by omega) (by omega)]; exact c3, by rw [hC 35 f (by omega) (by omega) (by omega) rfl]; exact c4⟩
theorem vleaf_ok {v : Nat} (h : ST K1 K2 m μ g fc sc fs D H (n + 1) A P r σ τ) (hX : rd τ 132 n = i32 13) (hμ : μ A = 1) (hf : (sc.find? fun v => decide (rl σ 29 v = rl σ 12 A)) = some v) (d : Nat) :
    OUTI L xs K1 K2 τ (bV (rn L xs (d + 2) 73 0 [.ref 15, .int (rd σ 62 6), .int (i32 v), jv] [] σ) (fun s5 => bI (rn L xs (d + 2) 133 0 [.ref 62, .int 2, .int (i32 v), jv] [] s5) (fun a7 s6 => some (.inl (some (.int a7)), s6)) X0) X0) (NTQ K1 K2 m μ g fc sc fs D H n r A P σ τ) := by
  obtain ⟨o1, o2, o3, o4, ⟨o5, o5'⟩, o6, ⟨s1, s2, s3, s4, s5, s6, s7, s8, s9, s10, s11, s12⟩, o8, o9, o10⟩ := h.all
  have hlt := h.lt (by omega)
  have hws := wch_succ μ A
  have hu : uch (μ A) = 1 ∧ aen (μ A) = true := by rw [hμ]; exact ⟨rfl, rfl⟩
  have hSTp := h.pop
  generalize hτp : wr τ 123 18 (i32 n) = τp at hSTp
  have hp : ∀ j i, ¬ (j = 123 ∧ i = 18) → rd τp j i = rd τ j i := fun j i h => by rw [← hτp, rd_wr, if_neg h]
  obtain ⟨F, ⟨hc, hs, hF1⟩, hF, hO, hPF, hZ⟩ := hSTp
  have hSTp : ST K1 K2 m μ g fc sc fs D H n A P r σ τp := ⟨F, ⟨hc, hs, hF1⟩, hF, hO, hPF, hZ⟩
  have hc' := hc
  obtain ⟨V, S, C, q, cp, a1, a2, ⟨a3, a4⟩, ⟨a5, a6, a7, a8⟩, a9, ⟨a10, a11⟩, a12, a13, a14, a15, a16, a17, a18⟩ := hc
  have hvm : v ∈ sc := List.mem_of_find?_eq_some hf
  have hvV := a15.2.2.2.2.2.1 v hvm
  -- the component captures
  obtain ⟨σc, C', cp', k1, k2, k3, k4, k5, k6⟩ := capture_loop (L := L) (xs := xs) (K1 := K1) (K2 := K2) (F := F) (v := v) (by omega) (by omega) d fs sc (rd σ 62 6) C cp σ (.int (rd σ 62 6)) a18.2.1 a18.2.2.1 a18.2.2.2.1 (fun e he => ⟨(a18.2.2.2.2.1 e he).1, (a18.2.2.2.2.1 e he).2.2.1, fun u hu => capW_mem _ u (by rw [← (a18.2.2.2.2.1 e he).2.2.2]; exact hu)⟩) (a18.2.2.2.2.2.1 v hvm) a18.2.2.2.2.2.2.1 a18.1 a17
  obtain ⟨k41, k42, k43⟩ := k4
  have e73 : rn L xs (d + 2) 73 0 [.ref 15, .int (rd σ 62 6), .int (i32 v), jv] [] σ = some (.inl none, σc) := by
    rw [e73_0 (d + 1)]; exact k1
  have kc : ∀ j i, j < 37 ∨ 41 < j → ¬ (j = 15 ∧ i = 29) → rd σc j i = rd σ j i := fun j i h1 h2 => k41 j i (by omega)
  have t1 : rd σc 62 3 = i32 A := (kc _ _ (by omega) (by omega)).trans s1
  have t5 : rd σc 62 5 = rd σ 62 5 := kc _ _ (by omega) (by omega)
  have e133 : rn L xs (d + 2) 133 0 [.ref 62, .int 2, .int (i32 v), jv] [] σc = some (.inl (some (.int (i32 P))), wr (wr (wr (wr (cNew σc P 2 (i32 A) (i32 A) (rd σ 62 5)) 27 P (i32 v)) 62 8 (i32 A)) 62 9 (i32 A)) 62 3 (i32 (A + 1 : Nat))) := by
    have e3 : rd (cNew σc P 2 (i32 A) (i32 A) (rd σ 62 5)) 62 3 = i32 A := (cNew_oth rfl (by omega)).trans t1
    rw [e133_0 (d + 1), t1, t5, bI_ok (cnew_ok ((kc 15 13 (by omega) (by omega)).trans o5) (by omega) d _ _ _ _), e3, c_in (by omega) (by omega) (by omega), i32_ixn (by omega), i32_n1]
  have nC := nodC.zero (σ := σc) (P := P) (κ := 2) (f := i32 A) (l := i32 A) (s := rd σ 62 5)
  have nC : nodC σc (cNew σc P 2 (i32 A) (i32 A) (rd σ 62 5)) P 2 (i32 A) (i32 A) (rd σ 62 5) P [] := nC
  have hsc : ∀ i, i ≠ 3 → i ≠ 8 → i ≠ 9 → rd (wr (wr (wr (wr (cNew σc P 2 (i32 A) (i32 A) (rd σ 62 5)) 27 P (i32 v)) 62 8 (i32 A)) 62 9 (i32 A)) 62 3 (i32 (A + 1 : Nat))) 62 i = rd σ 62 i := fun i h1 h2 h3 => by
    rw [rd_wr, if_neg (by omega), rd_wr, if_neg (by omega), rd_wr, if_neg (by omega), wr_nek (by omega)]; exact (cNew_oth rfl (by omega)).trans (kc _ _ (by omega) (by omega))
  have hxC : xC (cNew σc P 2 (i32 A) (i32 A) (rd σ 62 5)) (wr (wr (wr (wr (cNew σc P 2 (i32 A) (i32 A) (rd σ 62 5)) 27 P (i32 v)) 62 8 (i32 A)) 62 9 (i32 A)) 62 3 (i32 (A + 1 : Nat))) P := ⟨fun j i h1 h2 => by
    rw [rd_wr, if_neg (fun q => by rw [q.1, q.2] at h2; cases h2), rd_wr, if_neg (fun q => by rw [q.1, q.2] at h2; cases h2), rd_wr, if_neg (fun q => by rw [q.1, q.2] at h2; cases h2), rd_wr, if_neg (fun q => h1 ⟨q.2, Or.inr q.1⟩)], rfl⟩
  have h27 : rd (wr (wr (wr (wr (cNew σc P 2 (i32 A) (i32 A) (rd σ 62 5)) 27 P (i32 v)) 62 8 (i32 A)) 62 9 (i32 A)) 62 3 (i32 (A + 1 : Nat))) 27 P = i32 v := by rw [wr_nek (by omega), wr_nek (by omega), wr_nek (by omega), rd_wr, if_pos ⟨rfl, rfl⟩]
  have g8 : rd (wr (wr (wr (wr (cNew σc P 2 (i32 A) (i32 A) (rd σ 62 5)) 27 P (i32 v)) 62 8 (i32 A)) 62 9 (i32 A)) 62 3 (i32 (A + 1 : Nat))) 62 8 = i32 A := by rw [rd_wr, if_neg (by omega), rd_wr, if_neg (by omega), rd_wr, if_pos ⟨rfl, rfl⟩]
  have g9 : rd (wr (wr (wr (wr (cNew σc P 2 (i32 A) (i32 A) (rd σ 62 5)) 27 P (i32 v)) 62 8 (i32 A)) 62 9 (i32 A)) 62 3 (i32 (A + 1 : Nat))) 62 9 = i32 A := by rw [rd_wr, if_neg (by omega), rd_wr, if_pos ⟨rfl, rfl⟩]
  have g3 : rd (wr (wr (wr (wr (cNew σc P 2 (i32 A) (i32 A) (rd σ 62 5)) 27 P (i32 v)) 62 8 (i32 A)) 62 9 (i32 A)) 62 3 (i32 (A + 1 : Nat))) 62 3 = i32 (A + 1 : Nat) := by rw [rd_wr, if_pos ⟨rfl, rfl⟩]
  have g63 : ∀ i, rd (wr (wr (wr (wr (cNew σc P 2 (i32 A) (i32 A) (rd σ 62 5)) 27 P (i32 v)) 62 8 (i32 A)) 62 9 (i32 A)) 62 3 (i32 (A + 1 : Nat))) 63 i = rd σ 63 i := fun i => by rw [wr_nek (by omega), wr_nek (by omega), wr_nek (by omega), wr_nek (by omega)]; exact (cNew_oth rfl (by omega)).trans (kc _ _ (by omega) (by omega))
  generalize wr (wr (wr (wr (cNew σc P 2 (i32 A) (i32 A) (rd σ 62 5)) 27 P (i32 v)) 62 8 (i32 A)) 62 9 (i32 A)) 62 3 (i32 (A + 1 : Nat)) = σ' at *
  have hl : σ'.2 = σc.2 := hxC.2.trans nC.2.2.2.2.2.2
  have hCc : ∀ j i, ¬ (i = P ∧ 16 ≤ j ∧ j ≤ 28) → ¬ (j = 15 ∧ i = 13) → scC j i = false → rd σ' j i = rd σc j i := fun j i h1 h2 h3 => by
    rw [hxC.1 j i (by omega) h3]
    by_cases hj : 16 ≤ j ∧ j < 29
    · exact nC.1 j i (by omega) (by simp) (by omega)
    · exact nC.2.1 j i (rgN_no hj) (by omega)
  have hCn : ∀ j i, ¬ (i = P ∧ 16 ≤ j ∧ j ≤ 28) → ¬ (j = 15 ∧ (i = 13 ∨ i = 29)) → ¬ (37 ≤ j ∧ j ≤ 41) → scC j i = false → rd σ' j i = rd σ j i := fun j i h1 h2 h3 h4 => (hCc j i h1 (by omega) h4).trans (kc j i (by omega) (by omega))
  have hx : ∀ j, j ≠ 19 → j ≠ 27 → j < 62 → rd σ' j P = rd (cNew σc P 2 (i32 A) (i32 A) (rd σ 62 5)) j P := fun j h1 h2 h3 => hxC.1 j P (by omega) (scC_lo h3)
  obtain ⟨d1, d2, d3, d4, d5, d6, d7, d8, d9, d10⟩ := nC.2.2.1
  have hkids : ∀ w, w < 3 → rd σ' (20 + w) P = kid [] w := fun w hw => (hx (20 + w) (by omega) (by omega) (by omega)).trans (nC.2.2.2.1 w hw)
  have h15 : rd σ' 15 13 = i32 (P + 1 : Nat) := (hxC.1 15 13 (by omega) rfl).trans nC.2.2.2.2.2.1
  have x16 := (hx 16 (by omega) (by omega) (by omega)).trans d1
  have x17 := (hx 17 (by omega) (by omega) (by omega)).trans d2
  have x18 := (hx 18 (by omega) (by omega) (by omega)).trans d3
  have x26 := (hx 26 (by omega) (by omega) (by omega)).trans d8
  have x24 := (hx 24 (by omega) (by omega) (by omega)).trans d6
  have x25 := (hx 25 (by omega) (by omega) (by omega)).trans d7
  have x23 := (hx 23 (by omega) (by omega) (by omega)).trans d5
  have x28 := (hx 28 (by omega) (by omega) (by omega)).trans d10
  -- the model
  have hnm : nmR m σ τp (rl σ 12 A) (rd τp 129 A) := ⟨A, hlt, by rw [a2]; exact hμ, rfl, rfl⟩
  have p46 : rd τp 123 46 = i32 P := a4
  have p17 : rd τp 123 17 = i32 A := (hp _ _ (by omega)).trans s2
  have nM := nodM.zero (τ := τp) (P := P) (κ := 3) (f := i32 A) (l := i32 A)
  generalize hτ1 : mNew τp P 3 (i32 A) (i32 A) = τ1 at nM
  have s22 : rd τ1 123 22 = i32 r := by rw [← hτ1]; exact (mNew_oth (by omega) (by omega)).trans ((hp _ _ (by omega)).trans s7)
  have s17 : rd τ1 123 17 = i32 A := by rw [← hτ1]; exact (mNew_oth (by omega) (by omega)).trans p17
  have n154 : rd τ1 154 P = i32 (-1) ∧ rd τ1 155 P = i32 (-1) ∧ rd τ1 156 P = i32 (-1) := by rw [← hτ1]; exact ⟨mNew_at.2.2.2.1, mNew_at.2.2.2.2.1, mNew_at.2.2.2.2.2.1⟩
  have hmS : mS L xs τ (wr (wr (wr (wr (wr (wr τ1 157 P (i32 v)) 135 r (i32 P)) 136 r (i32 A)) 137 r (i32 A)) 123 22 (i32 (r + 1 : Nat))) 123 17 (i32 (A + 1 : Nat))) := by
    refine nx s6 (by omega) o3 ⟨hX, rfl, rfl⟩ (pc := 297) (by decide +kernel) (fun dm => ?_)
    have e315 : rn L xs (dm + 6) 315 0 [.ref 123, jv, jv, jv, jv] [] τp = some (.inl none, wr (wr (wr (wr (wr (wr τ1 157 P (i32 v)) 135 r (i32 P)) 136 r (i32 A)) 137 r (i32 A)) 123 22 (i32 (r + 1 : Nat))) 123 17 (i32 (A + 1 : Nat))) := by
      rw [e315_0 (dm + 5), p17, c_in (by omega) (by omega) (by omega), i32_ixn (by omega), bI_ok (mvar_ok a1 a14 a15 (by omega) (dm + 4) hnm), hf]
      show cond (pv_c2 .eq (i32 (v : Int)) (Int32.ofInt (-1))) _ _ = _
      rw [i32_raw, c2_eq (by omega) (by omega) (by omega) (by omega), c_f (by omega), p17, bI_ok (mnew_ok p46 (by omega) (dm + 4) 3 _ _), hτ1, c_in (by omega) (by omega) (by omega), i32_ixn (by omega), s17, bV_ok (mhold_ok (r := r) ((wr_nek (by omega)).trans s22) (by omega) (dm + 4) _ _ _), rd_wr, if_neg (by omega), wr_nek (by omega), wr_nek (by omega), wr_nek (by omega), wr_nek (by omega), s17, i32_n1]
      rfl
    rw [hτp, e310_297 (dm + 7), bV_ok (r := rn L xs (dm + 7) 312 0 _ _ _) (σ := wr (wr (wr (wr (wr (wr τ1 157 P (i32 v)) 135 r (i32 P)) 136 r (i32 A)) 137 r (i32 A)) 123 22 (i32 (r + 1 : Nat))) 123 17 (i32 (A + 1 : Nat))), e310_362]
    rw [e312_0 (dm + 6), bI_ok (hSTp.mk (dm + 5)), hμ, swk_of (p := 163) (by decide +kernel), e312_163 (dm + 6), bV_ok e315, e312_246]
  have hb : ∀ j i, ¬ (135 ≤ j ∧ j ≤ 137 ∧ i = r) → ¬ (j = 123 ∧ (i = 22 ∨ i = 17)) → ¬ (i = P ∧ j = 157) → rd (wr (wr (wr (wr (wr (wr τ1 157 P (i32 v)) 135 r (i32 P)) 136 r (i32 A)) 137 r (i32 A)) 123 22 (i32 (r + 1 : Nat))) 123 17 (i32 (A + 1 : Nat))) j i = rd τ1 j i := fun j i h1 h2 h3 => by
    rw [rd_wr, if_neg (by omega), rd_wr, if_neg (by omega), rd_wr, if_neg (by omega), rd_wr, if_neg (by omega), rd_wr, if_neg (by omega), rd_wr, if_neg (by omega)]
  have b1 : rd (wr (wr (wr (wr (wr (wr τ1 157 P (i32 v)) 135 r (i32 P)) 136 r (i32 A)) 137 r (i32 A)) 123 22 (i32 (r + 1 : Nat))) 123 17 (i32 (A + 1 : Nat))) 135 r = i32 P := by rw [wr_nek (by omega), wr_nek (by omega), wr_nek (by omega), wr_nek (by omega), rd_wr, if_pos ⟨rfl, rfl⟩]
  have b2 : rd (wr (wr (wr (wr (wr (wr τ1 157 P (i32 v)) 135 r (i32 P)) 136 r (i32 A)) 137 r (i32 A)) 123 22 (i32 (r + 1 : Nat))) 123 17 (i32 (A + 1 : Nat))) 136 r = i32 A := by rw [wr_nek (by omega), wr_nek (by omega), wr_nek (by omega), rd_wr, if_pos ⟨rfl, rfl⟩]
  have b3 : rd (wr (wr (wr (wr (wr (wr τ1 157 P (i32 v)) 135 r (i32 P)) 136 r (i32 A)) 137 r (i32 A)) 123 22 (i32 (r + 1 : Nat))) 123 17 (i32 (A + 1 : Nat))) 137 r = i32 A := by rw [wr_nek (by omega), wr_nek (by omega), rd_wr, if_pos ⟨rfl, rfl⟩]
  have b4 : rd (wr (wr (wr (wr (wr (wr τ1 157 P (i32 v)) 135 r (i32 P)) 136 r (i32 A)) 137 r (i32 A)) 123 22 (i32 (r + 1 : Nat))) 123 17 (i32 (A + 1 : Nat))) 123 22 = i32 (r + 1 : Nat) := by rw [rd_wr, if_neg (by omega), rd_wr, if_pos ⟨rfl, rfl⟩]
  have b5 : rd (wr (wr (wr (wr (wr (wr τ1 157 P (i32 v)) 135 r (i32 P)) 136 r (i32 A)) 137 r (i32 A)) 123 22 (i32 (r + 1 : Nat))) 123 17 (i32 (A + 1 : Nat))) 123 17 = i32 (A + 1 : Nat) := by rw [rd_wr, if_pos ⟨rfl, rfl⟩]
  have b6 : rd (wr (wr (wr (wr (wr (wr τ1 157 P (i32 v)) 135 r (i32 P)) 136 r (i32 A)) 137 r (i32 A)) 123 22 (i32 (r + 1 : Nat))) 123 17 (i32 (A + 1 : Nat))) 157 P = i32 v := by rw [wr_nek (by omega), wr_nek (by omega), wr_nek (by omega), wr_nek (by omega), wr_nek (by omega), rd_wr, if_pos ⟨rfl, rfl⟩]
  generalize wr (wr (wr (wr (wr (wr τ1 157 P (i32 v)) 135 r (i32 P)) 136 r (i32 A)) 137 r (i32 A)) 123 22 (i32 (r + 1 : Nat))) 123 17 (i32 (A + 1 : Nat)) = τ' at hmS hb b1 b2 b3 b4 b5 b6
  have hbn : ∀ j i, ¬ (135 ≤ j ∧ j ≤ 137 ∧ i = r) → ¬ (j = 123 ∧ (i = 22 ∨ i = 46 ∨ i = 17)) → ¬ (i = P ∧ 151 ≤ j ∧ j ≤ 163) → rd τ' j i = rd τp j i := fun j i h1 h2 h3 => by
    rw [hb j i h1 (by omega) (by omega)]
    by_cases hj : 151 ≤ j ∧ j ≤ 163
    · exact nM.1 j i (by omega) (by simp) (by omega)
    · exact nM.2.1 j i hj (by omega)
  obtain ⟨f1, f2, f3, f5, f6, f7, f8, f9⟩ := nM.2.2.1
  have key : CORE K1 K2 m μ g fc sc fs F (A + 1) (P + 1) (r + 1) σ' τ' := by
    refine CORE.node (σ := σ) (τ := τp) (kids := []) (κ := 2) (fs := fs) (a := A) (b := A) (st := P) (r0 := r) (hc'.ag (by omega) agC.refl agM.refl (Nat.le_succ A)) (by omega) (by omega) (by omega) (fun j i h1 _ _ h4 h5 _ h7 => hCn j i h1 h4 h5 h7)
      (fun j i h1 h2 h3 _ h5 => hbn j i (fun q => by
            have : rgN 132 138 j = true := by unfold rgN; rw [Nat.ble_eq_true_of_le (by omega), Nat.blt_eq.mpr (by omega)]; rfl
            unfold scM at h5; rw [this] at h5; cases h5) (fun q => by
            rcases q.2 with e | e | e
            · rw [q.1, e] at h5; cases h5
            · omega
            · rw [q.1, e] at h5; cases h5) h1)
      (by rw [hl]; exact k42) (by unfold roomC at k3 ⊢; unfold ln rm at k3 ⊢; rw [hl]; exact k3)
      (fun C1 cp1 hcp => ?_) h15 ?_ (fun q h1 h2 => ⟨q, by rw [hbn 123 60 (by omega) (by omega) (by omega)]; exact h1, Nat.le_refl _, by simp at h2; omega⟩) rfl (fun c hc => by cases hc) (by omega) x16 ?_ x17 x18 ?_ ?_ (Nat.le_refl _) (Nat.lt_succ_self _) x26 ?_ x28 ?_ ?_ (fun w c hw => by simp at hw) ?_ (fun w c hw => by simp at hw) ⟨fun _ => by rw [h27, i32_ixn (by omega)]; exact hvm, nnR_27 (by omega) h27 (by omega)⟩ (ownR_no (by omega) (by omega) (by omega)) ⟨fun _ => rfl, fun q => absurd q (by omega)⟩ ⟨fun q => absurd q (by omega), fun q => absurd q (by omega)⟩
    · obtain ⟨σc', C2, cp2, y1, y2, y3, y4, y5, y6⟩ := capture_loop (L := L) (xs := xs) (K1 := K1) (K2 := K2) (F := F) (v := v) (by omega) (by omega) d fs sc (rd σ 62 6) C1 cp1 σ (.int (rd σ 62 6)) hcp.2.1 hcp.2.2.1 hcp.2.2.2.1 (fun e he => ⟨(hcp.2.2.2.2.1 e he).1, (hcp.2.2.2.2.1 e he).2.2.1, fun u hu => capW_mem _ u (by rw [← (hcp.2.2.2.2.1 e he).2.2.2]; exact hu)⟩) (hcp.2.2.2.2.2.1 v hvm) hcp.2.2.2.2.2.2.1 hcp.1 a17
      have hee : σc' = σc := by
        have := k1.symm.trans y1
        injection this with this
        injection this with _ this
        exact this.symm
      subst hee
      exact ⟨C2, cp2, hcp.var (by omega) x16 h27 (by omega) hCn (y2.congr (fun j h1 h2 i => hCc j i (by omega) (by omega) (scC_lo (by omega))) (hCc 15 29 (by omega) (by omega) rfl) (by unfold ln; rw [hl])) y5 y6⟩
    · rw [hb 123 46 (by omega) (by omega) (by omega)]; exact nM.2.2.2.2.1
    · exact (hb 151 P (by omega) (by omega) (by omega)).trans f1
    · exact (hb 152 P (by omega) (by omega) (by omega)).trans f2
    · exact (hb 153 P (by omega) (by omega) (by omega)).trans f3
    · exact (hb 161 P (by omega) (by omega) (by omega)).trans f8
    · exact (hb 160 P (by omega) (by omega) (by omega)).trans f7
    · rw [x24]; exact (hb 159 P (by omega) (by omega) (by omega)).trans f6
    · exact ⟨fun _ => b6.trans h27.symm, fun q => absurd q (by omega), fun q => absurd q (by omega), fun q1 q2 => absurd q1 (by omega), fun q => absurd q (by omega), fun q => absurd q (by omega), fun q => absurd q (by omega), fun q => absurd q (by omega), fun _ => ⟨by rw [hb 154 P (by omega) (by omega) (by omega), n154.1]; exact (hkids 0 (by omega)).symm, by rw [hb 155 P (by omega) (by omega) (by omega), n154.2.1]; exact (hkids 1 (by omega)).symm, by rw [hb 156 P (by omega) (by omega) (by omega), n154.2.2]; exact (hkids 2 (by omega)).symm, hkids⟩, fun q => absurd q (by omega)⟩
  rw [bV_ok e73, bI_ok e133]
  refine Or.inl ⟨i32 P, σ', τ', rfl, hmS, A + 1, P + 1, rfl, ⟨F, ⟨key, ⟨g3, b5, (hsc 4 (by omega) (by omega) (by omega)).trans s3, (hbn _ _ (by omega) (by omega) (by omega)).trans ((hp _ _ (by omega)).trans s4), (hsc 11 (by omega) (by omega) (by omega)).trans s5, (hbn _ _ (by omega) (by omega) (by omega)).trans (by rw [← hτp, rd_wr, if_pos ⟨rfl, rfl⟩]), b4, hlt, s9, by omega, by omega, by omega⟩, by omega⟩, by omega, ?_, fun f hf => ?_, hZ.node a4 (by omega) ?_ ?_ (fun i hi => hbn 123 i (by omega) (by omega) (by omega)) (fun j hj i => hbn j i (by omega) (by omega) (by omega)) (fun i hi => hbn 160 i (by omega) (by omega) (by omega))⟩, ⟨⟨Nat.lt_succ_self _, fun q h1 h2 => by rw [show q = P by omega, x17, i32_ixn (by omega)]; exact Nat.le_refl _⟩, Nat.lt_succ_self _, g8, g9, b1, b2, b3, Nat.le_refl _, x26, x24, x25, x23, x28.trans (hsc 5 (by omega) (by omega) (by omega)).symm⟩, by omega, hu.2, ?_⟩
  · rw [hsc 6 (by omega) (by omega) (by omega), hO]
    cases sc with
    | nil => rfl
    | cons v t => exact (hCn 31 v (by omega) (by omega) (by omega) rfl).symm
  · obtain ⟨a, b1, b2⟩ := hPF f hf
    exact ⟨a, (hCn 46 f (by omega) (by omega) (by omega) rfl).trans b1, by omega⟩
  · rw [hb 123 46 (by omega) (by omega) (by omega)]; exact nM.2.2.2.2.1
  · exact (hb 160 P (by omega) (by omega) (by omega)).trans f7
  refine ⟨fun i hi j h1 h2 => (hbn j i (by omega) (by omega) (by omega)).trans (hp j i (by omega)), fun i hi j h1 h2 => (hbn j i (by omega) (by omega) (by omega)).trans (hp j i (by omega)), fun i _ => g63 i, fun p hp j h1 h2 => hCn j p (by omega) (by omega) (by omega) (scC_lo (by omega)), fun u _ => ⟨?_, hCn 31 u (by omega) (by omega) (by omega) rfl, hCn 32 u (by omega) (by omega) (by omega) rfl, hCn 33 u (by omega) (by omega) (by omega) rfl⟩, ?_, fun j _ i => ?_, OLX.of (fun j i h => hCn j i (by omega) (by omega) (by omega) (scC_lo (by omega))) (fun j i h => (hbn j i (by omega) (by omega) (by omega)).trans (hp j i (by omega))), MB.node o5 (by omega) h15 (hCn 15 19 (by omega) (by omega) (by omega) rfl) (fun j i hi h => hCn j i (by omega) (by omega) (by omega) (scC_lo (by omega))) (nobnd (κ := 2) x16 (by omega) (by omega) (by omega) (by omega))⟩
  · show σ'.2.1 29 u = σ.2.1 29 u
    rw [hl, k42]
  · rw [hCn 15 19 (by omega) (by omega) (by omega) rfl]; exact Nat.le_refl _
  · show σ'.2.1 j i = σ.2.1 j i
    rw [hl, k42]
end VLEAF
