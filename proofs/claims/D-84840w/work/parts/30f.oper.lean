/-! READING: small steps of both; an operand behind a sign -/
section OPER
variable {L : Nat} {xs : Nat → Int32} {K1 K2 m : Nat} {μ : Nat → Nat} {g fc : Nat} {sc : List Nat} {fs fs' : List (Nat × Nat × List Nat)} {F D H n A P r r0 : Nat} {σ τ σ' τ' σ1 τ1 : tvS}
theorem ST.pop (h : ST K1 K2 m μ g fc sc fs D H (n + 1) A P r σ τ) : ST K1 K2 m μ g fc sc fs D H n A P r σ (wr τ 123 18 (i32 n)) := by
  obtain ⟨o1, o2, o3, o4, o5, o6, ⟨s1, s2, s3, s4, s5, s6, s7, s8, s9, s10, s11, s12⟩, o8⟩ := h.all
  exact h.ag agC.refl (agM.refl.wr rfl) (Nat.le_refl _) s8 s9 s10 (by omega) s1 (by rw [rd_wr, if_neg (by omega)]; exact s2) s3 (by rw [rd_wr, if_neg (by omega)]; exact s4) s5 (by rw [rd_wr, if_pos ⟨rfl, rfl⟩]) (by rw [rd_wr, if_neg (by omega)]; exact s7)
theorem mPush_s {i k : Nat} {x a b : Int32} (h : k ≠ 18) : rd (mPush τ i x a b) 123 k = rd τ 123 k := mPush_oth (by omega) (by omega)
theorem ST.push (h : ST K1 K2 m μ g fc sc fs D H n A P r σ τ) (hn : n + 1 ≤ 8 * A + 20) (x a b : Int32) : ST K1 K2 m μ g fc sc fs D H (n + 1) A P r σ (mPush τ n x a b) := by
  obtain ⟨o1, o2, o3, o4, o5, o6, ⟨s1, s2, s3, s4, s5, s6, s7, s8, s9, s10, s11, s12⟩, o8⟩ := h.all
  exact h.ag agC.refl agM.refl.push (Nat.le_refl _) s8 s9 s10 hn s1 ((mPush_s (by omega)).trans s2) s3 ((mPush_s (by omega)).trans s4) s5 mPush_come ((mPush_s (by omega)).trans s7)
theorem ST.at1 (h : ST K1 K2 m μ g fc sc fs D H n A P r σ τ) (hA : A < m) : ST K1 K2 m μ g fc sc fs D H n (A + 1) P r (wr σ 62 3 (i32 (A + 1 : Nat))) (wr τ 123 17 (i32 (A + 1 : Nat))) := by
  obtain ⟨o1, o2, o3, o4, o5, o6, ⟨s1, s2, s3, s4, s5, s6, s7, s8, s9, s10, s11, s12⟩, o8⟩ := h.all
  exact h.ag (agC.refl.wr rfl) (agM.refl.wr rfl) (Nat.le_succ _) hA s9 (by omega) (by omega) (by rw [rd_wr, if_pos ⟨rfl, rfl⟩]) (by rw [rd_wr, if_pos ⟨rfl, rfl⟩]) (by rw [rd_wr, if_neg (by omega)]; exact s3) (by rw [rd_wr, if_neg (by omega)]; exact s4) (by rw [rd_wr, if_neg (by omega)]; exact s5) (by rw [rd_wr, if_neg (by omega)]; exact s6) (by rw [rd_wr, if_neg (by omega)]; exact s7)
theorem ST.lt (h : ST K1 K2 m μ g fc sc fs D H n A P r σ τ) (hk : μ A ≠ 36) : A < m := by
  obtain ⟨o1, o2, o3, o4, o5, o6, ⟨s1, s2, s3, s4, s5, s6, s7, s8, s9, s10, s11, s12⟩, o8⟩ := h.all
  have := o1.2.2.1
  rw [o2] at this
  apply Classical.byContradiction
  intro q
  exact hk (by rw [show A = m by omega]; exact this)
theorem ST.sg (h : ST K1 K2 m μ g fc sc fs D H n A P r σ τ) {k : Nat} {x : Int32} (hx : x = i32 (sgC k)) (h1 : 20 ≤ k) (h2 : k ≤ 35) (d : Nat) : rn L xs (d + 2) 114 0 [.ref 62, .int x] [] σ = some (.inl (some (.int (bN (decide (μ A = k))))), σ) := by
  obtain ⟨o1, o2, o3, o4, o5, o6, ⟨s1, s2, s3, s4, s5, s6, s7, s8, s9, s10, s11, s12⟩, o8⟩ := h.all
  rw [hx, rsign_ok o1 s8 s1 h1 h2 d, o2]
theorem ST.wd (h : ST K1 K2 m μ g fc sc fs D H n A P r σ τ) {w : Nat} {x : Int32} (hx : x = i32 w) (h1 : w < 13) (d : Nat) : rn L xs (d + 2) 109 0 [.ref 62, .int x] [] σ = some (.inl (some (.int (bN (decide (μ A = 3 + w))))), σ) := by
  obtain ⟨o1, o2, o3, o4, o5, o6, ⟨s1, s2, s3, s4, s5, s6, s7, s8, s9, s10, s11, s12⟩, o8⟩ := h.all
  rw [hx, rword_ok o1 s8 s1 h1 d, o2]
theorem ST.mk (h : ST K1 K2 m μ g fc sc fs D H n A P r σ τ) (d : Nat) : rn L xs (d + 1) 299 0 [.ref 123] [] τ = some (.inl (some (.int (i32 (μ A)))), τ) := by
  obtain ⟨o1, o2, o3, o4, o5, o6, ⟨s1, s2, s3, s4, s5, s6, s7, s8, s9, s10, s11, s12⟩, o8⟩ := h.all
  rw [mkind_ok o1 s8 s2 d, o2]
theorem ST.mu36 (h : ST K1 K2 m μ g fc sc fs D H n A P r σ τ) : μ A ≤ 36 := by
  obtain ⟨o1, o2, o3, o4, o5, o6, ⟨s1, s2, s3, s4, s5, s6, s7, s8, s9, s10, s11, s12⟩, o8⟩ := h.all
  have := (o1.2.1 A s8).2.2
  rw [o2] at this
  exact this
theorem OLDe.mono {E : List Nat} {n' r' H' P' : Nat} (h : OLDe E n r H P σ τ σ' τ') (h1 : n' ≤ n) (h2 : r' ≤ r) (h3 : H' ≤ H) (h4 : P' ≤ P) : OLDe E n' r' H' P' σ τ σ' τ' := by
  obtain ⟨a1, a2, a3, a4, a5, a6, a7, a8, a9⟩ := h
  exact ⟨fun i hi => a1 i (by omega), fun i hi => a2 i (by omega), fun i hi => a3 i (by omega), fun p hp => a4 p (by omega), a5, a6, a7, OLX.refl.trans (P1 := P) a8 h4, a9⟩
theorem OLD.mono {n' r' H' P' : Nat} (h : OLD n r H P σ τ σ' τ') (h1 : n' ≤ n) (h2 : r' ≤ r) (h3 : H' ≤ H) (h4 : P' ≤ P) : OLD n' r' H' P' σ τ σ' τ' := OLDe.mono h h1 h2 h3 h4
/-- the latest part, as it waits -/
theorem oper {X M k e B nn d κ A0 A1 P0 P1 : Nat} {loc : List Value} {x b : Int32} {Q : Int32 → tvS → tvS → Prop} (hp : NT L xs K1 K2 m μ g fc X M k e loc B) (h : ST K1 K2 m μ g fc sc fs D H (nn + 2) (A1 + 1) P1 (r + 1) σ τ) (hT : PT P0 (P1 - 1) σ) (hR : RF A0 P0 P1 σ) (hP : P0 < P1) (hA : A0 ≤ A1)
    (hr1 : rd τ 135 r = i32 (P1 - 1 : Nat)) (hr2 : rd τ 136 r = i32 A0) (hI : IT τ nn 20 (i32 (opS κ)) b) (hX : rd τ 132 (nn + 1) = i32 X) (hB : m - (A1 + 1) < B) (hn : nn + 1 ≤ 8 * (A1 + 1) + k) (hd : 12 * (40 - D) + 20 + e ≤ d) (hκ1 : 8 ≤ κ) (hκ2 : κ ≤ 15) (hx : x = i32 κ) (hμ : μ A1 = opS κ) (hP0 : P0 ≤ wch μ A0) (hw0 : P1 + ach μ A0 + wch μ A0 ≤ P0 + wch μ A1)
    (K : Int32 → Int32 → tvS → tvR) (hK : ∀ a2 A2 P2 σ' τ', A1 + 1 < A2 → ST K1 K2 m μ g fc sc fs D H nn A2 P2 (r + 1) σ' τ' → TOP A0 P0 A2 P2 r σ' τ' → P2 + ach μ A0 + wch μ A0 ≤ P0 + wch μ A2 → aen (μ (A2 - 1)) = true → OLD nn r H P0 σ τ σ' τ' → OUTI L xs K1 K2 τ' (K a2 (i32 (P2 - 1 : Nat)) σ') Q) :
    OUTI L xs K1 K2 τ (bI (rn L xs d M 0 (.ref 62 :: loc) [] σ) (fun a2 s1 => bI (rn L xs d 138 0 [.ref 62, .int x, .int (i32 (P1 - 1 : Nat)), .int (i32 A0), .int a2, jv] [] s1) (fun a4 s3 => K a2 a4 s3) X0) X0) Q := by
  refine OUTI.bI (hp sc fs D H (nn + 1) (A1 + 1) P1 (r + 1) σ τ d h hX hB hn hd) (fun a σ2 τ2 hQ => ?_)
  obtain ⟨A2, P2, q1, q2, ⟨t1, t2, t3, t4, t5, t6, t7, t8⟩, q4, q5, q6⟩ := hQ
  obtain ⟨o1, o2, o3, o4, ⟨o5, o5'⟩, o6, ⟨s1, s2, s3, s4, s5, s6, s7, s8, s9, s10, s11, s12⟩, o8, o9, o10⟩ := q2.all
  have hT2 := hT.old q6 (by omega) (h.s5 q2)
  have hop : ∀ k, k < 16 → 8 ≤ k → uch (opS k) = 1 := by decide +kernel
  have hu := hop κ (by omega) hκ1
  rw [← hμ] at hu
  have hws := wch_succ μ A1
  obtain ⟨d', rfl⟩ : ∃ d', d = d' + 4 := ⟨d - 4, by omega⟩
  subst q1
  have hrol : ∀ k, k < 16 → 8 ≤ k → (rol k 0 = 1 ∧ rol k 1 = 1) := by decide +kernel
  obtain ⟨σ3, nC, hrun⟩ := pad2 (L := L) (xs := xs) (σ := σ2) (κ := κ) (P := P2) (c1 := P1 - 1) (c2 := P2 - 1) (s1 := P0) (s2 := P1) (f := i32 A0) (l := i32 (A2 - 1 : Nat)) (s := rd σ2 62 5) (r1 := 1) (r2 := 1) hx o5 (by omega) (by omega) (by omega) hT2.2.1 t8.2.1 (by have := hT2.1; omega) (by omega) (by have := t8.1; omega) (by rw [(hrol κ (by omega) hκ1).1]; rfl) (by rw [(hrol κ (by omega) hκ1).2]; rfl) d'
  have e138 : rn L xs (d' + 4) 138 0 [.ref 62, .int x, .int (i32 (P1 - 1 : Nat)), .int (i32 A0), .int (i32 (P2 - 1 : Nat)), jv] [] σ2 = some (.inl (some (.int (i32 P2))), wr σ3 62 8 (i32 A0)) := by
    rw [e138_0 (d' + 3), t4]
    exact hrun (fun a2 s4 => some (.inl (some (.int a2)), wr s4 62 8 (i32 A0)))
  have hsc : ∀ i, i ≠ 8 → rd (wr σ3 62 8 (i32 A0)) 62 i = rd σ2 62 i := fun i hi => by rw [rd_wr, if_neg (by omega)]; exact nC.2.1 62 i rfl (by omega)
  obtain ⟨τ3, w1, w2, w3, w4⟩ := bin_ok (L := L) (xs := xs) (κ := κ) (X := 20) (A0 := A0) (A2 := A2) (P0 := P0) (P1 := P1) (p1 := P1 - 1) (p2 := P2 - 1) (H' := H) (n := nn) (r := r) (σ1 := σ3) (σ' := wr σ3 62 8 (i32 A0)) q2 hT2 t8 (by omega) (by omega) ((q6.2.1 r (by omega) 135 (by omega) (by omega)).trans hr1) t5 (fun _ => ⟨(q6.2.1 r (by omega) 136 (by omega) (by omega)).trans hr2, t7⟩) (IT.old q6 (by omega) hI) (by omega) (by omega) nC ⟨fun j i h1 h2 => by rw [rd_wr, if_neg (fun q => by rw [q.1, q.2] at h2; cases h2)], rfl⟩ (by rw [rd_wr, if_pos ⟨rfl, rfl⟩]) ((hsc 9 (by omega)).trans t4) ((hsc 3 (by omega)).trans s1) ((hsc 4 (by omega)).trans s3) ((hsc 11 (by omega)).trans s5) s10 (fun i hi => by rw [rd_wr, if_neg (by omega)]; exact nC.2.1 63 i rfl (by omega)) (hR.join q6 t1.2 (by omega)) (fun e => by omega) (Or.inl ⟨hκ1, hκ2, rfl, rfl⟩)
  rw [bI_ok e138]
  refine OUTI.pre w1 ?_
  exact hK (i32 (P2 - 1 : Nat)) A2 (P2 + 1) _ τ3 t1.1 w2 w3 (by omega) q5 ((q6.mono (by omega) (by omega) (by omega) (by omega)).trans w4 (Nat.le_refl _) (Nat.le_refl _) (Nat.le_refl _) (Nat.le_refl _))
end OPER
