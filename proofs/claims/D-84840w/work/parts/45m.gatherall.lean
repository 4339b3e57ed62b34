/-! REGIONS, THE MODEL: bits of scopes and parts, all of them -/
section GATHERM
variable {L : Nat} {xs : Nat → Int32} {σ σ' τ0 : tvS} {D : pgD} {m f : Nat}
theorem MZ.X {N : Nat} {G : tG} {r : Nat → Nat} {hl : Nat → List Nat} {hv : Nat → Nat} {H S : Nat} {S' F LS : List Nat} (h : MZ N G r hl hv H S σ) (w : frX S' F LS σ σ') (hF : inL F 63 = false ∧ inL F 73 = false ∧ inL F 72 = false) (hS : inL S' 166 = false ∧ inL S' 167 = false ∧ inL S' 168 = false ∧ inL S' 169 = false) (hS2 : inL S' 170 = false ∧ inL S' 174 = false ∧ inL S' 175 = false) (hS3 : inL S' 171 = false ∧ inL S' 172 = false) : MZ N G r hl hv H S σ' := by
  obtain ⟨h1, h2, h3⟩ := h
  have k1 : TM N G r (σ'.1, σ.2) := h1.fr w.M hF.1 hS
  have k2 : HM N r hl hv H (σ'.1, σ.2) := h2.fr w.M hF.2.1 hS2
  have k3 : MT N S (σ'.1, σ.2) := h3.fr w.M hF.2.2 hS3
  exact ⟨k1, k2.i1 rfl, k3⟩
/-- what a chain of scopes reaches -/
def clBm (τ0 : tvS) (l : List Nat) (b : Nat) : Prop := ∃ v, v ∈ l ∧ b = vM τ0 v
/-- words: one, or none where there are no numbers -/
def wdq (wd : Nat) (nm : Nat → Nat) (G : tG) (r : Nat → Nat) (h : Nat → Nat → Prop) (BX : Nat → Prop) : Prop := wd ≤ 1 ∧ ∀ t, RQ G r h BX t → nm t ≤ 60
theorem scp_loop {N : Nat} {G : tG} {r : Nat → Nat} {hl : Nat → List Nat} {hv nm : Nat → Nat} {H wd S0 S1 : Nat} {vs us sc : Nat → Nat} {cl : Nat → List Nat} (hq : MQt N G r hl hv) (hF : PGF D m) (hf : f ≤ D.fc) (hty : TYm D f N τ0) (hsc : SCm D f S0 S1 vs us sc cl τ0) (hwd : wd ≤ 1) (h90 : rd τ0 123 90 = i32 (wd : Int)) (hnm : ∀ t v, t < N → D.tV f ≤ v → v < D.tV (f + 1) → RQ G r (hC hl hv) (fun b => b = vM τ0 v) t → r t = t → 2 ≤ G.1 t → rd τ0 184 t = i32 (nm t : Int) ∧ nm t ≤ 60) (d : Nat) : ∀ (j s S : Nat) (σ : tvS) (v2 v4 v5 v6 : Value), s + j = S1 + 1 → S0 < s → S + j < 2147483648 → MZ N G r hl hv H S σ → frG4 τ0 σ → rd σ 123 94 = i32 ((S0 + 1 : Nat) : Int) → (wd = 1 → ∀ s', S0 < s' → s' < s → LBt 188 (s' - (S0 + 1)) σ (nbR G r (hC hl hv) nm (clBm τ0 (cl s')))) →
    ∃ (σ' : tvS) (w2 w3 w4 w5 w6 : Value), rn L xs (d + 5) 352 107 [.ref 123, .int (i32 (f : Int)), v2, .int (i32 (s : Int)), v4, v5, v6] [] σ = rn L xs (d + 5) 352 240 [.ref 123, .int (i32 (f : Int)), w2, w3, w4, w5, w6] [] σ' ∧ MZ N G r hl hv H (S + j) σ' ∧ frG4 τ0 σ' ∧ rd σ' 123 94 = i32 ((S0 + 1 : Nat) : Int) ∧ (∀ i, rl σ' 189 i = rl σ 189 i) ∧ (wd = 1 → ∀ s', S0 < s' → s' ≤ S1 → LBt 188 (s' - (S0 + 1)) σ' (nbR G r (hC hl hv) nm (clBm τ0 (cl s')))) := by
  have hb4 := hF.1
  have hbl := (hF.le (D.fc + 1 - (f + 1)) (f + 1) (by omega))
  obtain ⟨⟨c1, c2, c3, c4⟩, c5, c6, c7⟩ := hsc
  intro j
  induction j with
  | zero =>
    intro s S σ v2 v4 v5 v6 e hs hS hZ hfm h94 hB
    have e : s = S1 + 1 := by omega
    subst e
    refine ⟨σ, v2, .int (i32 ((S1 + 1 : Nat) : Int)), v4, v5, v6, ?_, hZ, hfm, h94, fun _ => rfl, fun hw s' h1 h2 => hB hw s' h1 (by omega)⟩
    rw [e352_107, i32_up, c_in (by omega) (by omega) (by omega), i32_ixn (by omega), hfm.rd (j := 202) rfl, c2, c2_ge (by omega) (by omega) (by omega) (by omega), c_t (by omega)]
  | succ j ih =>
    intro s S σ v2 v4 v5 v6 e hs hS hZ hfm h94 hB
    obtain ⟨g1, g2, g3, g4, g5, g6, g7⟩ := c5 s hs (by omega)
    obtain ⟨t1, t2⟩ := hty.2.1 (vs s) g3 g4
    have h90' : rd σ 123 90 = i32 (wd : Int) := (hfm.2.1 90 rfl).trans h90
    have ex4 : (i32 (s : Int) - i32 ((S0 + 1 : Nat) : Int)) * i32 (wd : Int) = i32 (((s - (S0 + 1)) * wd : Nat) : Int) := by
      rw [i32_sub, i32_mul]; congr 1
      rw [show (s : Int) - ((S0 + 1 : Nat) : Int) = ((s - (S0 + 1) : Nat) : Int) by omega]; exact (Int.natCast_mul _ _).symm
    have hto : (s - (S0 + 1)) * wd ≤ 3000 := by
      have : wd = 0 ∨ wd = 1 := by omega
      rcases this with w | w
      · rw [w, Nat.mul_zero]; omega
      · rw [w, Nat.mul_one]; omega
    -- what is above comes first
    obtain ⟨s1, u6, k1, k2, k3, k4⟩ : ∃ (s1 : tvS) (u6 : Value), rn L xs (d + 5) 352 107 [.ref 123, .int (i32 (f : Int)), v2, .int (i32 (s : Int)), v4, v5, v6] [] σ = rn L xs (d + 5) 352 201 [.ref 123, .int (i32 (f : Int)), v2, .int (i32 (s : Int)), .int (i32 (((s - (S0 + 1)) * wd : Nat) : Int)), .int (i32 (us s : Int)), u6] [] s1 ∧ frX [] [] [188] σ s1 ∧ (∀ i, i ≠ s - (S0 + 1) → rl s1 188 i = rl σ 188 i) ∧ (wd = 1 → LBt 188 (s - (S0 + 1)) s1 (nbR G r (hC hl hv) nm (clBm τ0 (cl (us s))))) := by
      have e107 : rn L xs (d + 5) 352 107 [.ref 123, .int (i32 (f : Int)), v2, .int (i32 (s : Int)), v4, v5, v6] [] σ = rn L xs (d + 5) 352 143 [.ref 123, .int (i32 (f : Int)), v2, .int (i32 (s : Int)), .int (i32 (((s - (S0 + 1)) * wd : Nat) : Int)), .int (i32 (us s : Int)), .int 0] [] σ := by
        rw [e352_107, i32_up, c_in (by omega) (by omega) (by omega), i32_ixn (by omega), hfm.rd (j := 202) rfl, c2, c2_ge (by omega) (by omega) (by omega) (by omega), c_f (by omega), c_in (by omega) (by omega) (by omega), i32_ixn (by omega), hfm.rd (j := 150) rfl, g2, h94, h90', ex4]
      have hw01 : wd = 0 ∨ wd = 1 := by omega
      rcases hw01 with w | w
      · refine ⟨σ, .int 0, ?_, frX.refl, fun _ _ => rfl, fun h => by omega⟩
        rw [e107, e352_143, h90', w, show (0 : Int32) = i32 ((0 : Nat) : Int) from rfl, c2_ge (by omega) (by omega) (by omega) (by omega), c_t (by omega)]
      · rw [w, Nat.mul_one] at e107
        rw [w] at h90'
        rw [w, Nat.mul_one]
        have e0 : i32 ((s - (S0 + 1) : Nat) : Int) + 0 = i32 ((s - (S0 + 1) : Nat) : Int) := by rw [show (0 : Int32) = i32 0 from rfl, i32_add, Int.add_zero]
        have end1 : ∀ (x : Int64), rn L xs (d + 5) 352 194 [.ref 123, .int (i32 (f : Int)), v2, .int (i32 (s : Int)), .int (i32 ((s - (S0 + 1) : Nat) : Int)), .int (i32 (us s : Int)), .int 0] [.long x, .int (i32 ((s - (S0 + 1) : Nat) : Int)), .ref 188] σ = rn L xs (d + 5) 352 201 [.ref 123, .int (i32 (f : Int)), v2, .int (i32 (s : Int)), .int (i32 ((s - (S0 + 1) : Nat) : Int)), .int (i32 (us s : Int)), .int (i32 ((1 : Nat) : Int))] [] (wl σ 188 (s - (S0 + 1)) x) := fun x => by
          have h90w : rd (wl σ 188 (s - (S0 + 1)) x) 123 90 = i32 ((1 : Nat) : Int) := h90'
          rw [e352_194, c_in (by omega) (by omega) (by omega), i32_ixn (by omega), e352_143, h90w, show (0 : Int32) + 1 = i32 ((1 : Nat) : Int) from rfl, c2_ge (by omega) (by omega) (by omega) (by omega), c_t (by omega)]
        have e143 : rn L xs (d + 5) 352 143 [.ref 123, .int (i32 (f : Int)), v2, .int (i32 (s : Int)), .int (i32 ((s - (S0 + 1) : Nat) : Int)), .int (i32 (us s : Int)), .int 0] [] σ = cond (pv_c2 .ge (i32 (us s : Int)) (i32 ((S0 + 1 : Nat) : Int))) (rn L xs (d + 5) 352 174 [.ref 123, .int (i32 (f : Int)), v2, .int (i32 (s : Int)), .int (i32 ((s - (S0 + 1) : Nat) : Int)), .int (i32 (us s : Int)), .int 0] [.int (i32 ((s - (S0 + 1) : Nat) : Int)), .ref 188] σ) (rn L xs (d + 5) 352 194 [.ref 123, .int (i32 (f : Int)), v2, .int (i32 (s : Int)), .int (i32 ((s - (S0 + 1) : Nat) : Int)), .int (i32 (us s : Int)), .int 0] [.long 0, .int (i32 ((s - (S0 + 1) : Nat) : Int)), .ref 188] σ) := by
          rw [e352_143, h90', h94, e0, show (0 : Int32) = i32 ((0 : Nat) : Int) from rfl, c2_ge (by omega) (by omega) (by omega) (by omega), c_f (by omega)]
        by_cases cu : us s = 0
        · refine ⟨wl σ 188 (s - (S0 + 1)) 0, .int (i32 ((1 : Nat) : Int)), ?_, frX_wl rfl, fun i hi => by rw [rl_wl, if_neg (fun q => hi q.2)], fun _ j hj => ?_⟩
          · rw [e107, e143, c2_ge (by omega) (by omega) (by omega) (by omega), c_f (by omega), end1]
          · rw [rl_wl, if_pos ⟨rfl, rfl⟩, cu, c6]
            refine ⟨fun k => absurd k (bit_zero j), fun ⟨t, _, q, _, _⟩ => ?_⟩
            exact absurd (q (fun _ => False) (fun _ _ _ k => k) (fun _ _ k _ _ => k) (fun _ _ k _ => k) (fun b ⟨v, hv, _⟩ => by cases hv)) (fun k => k)
        · have hgu : S0 < us s := g6.resolve_left cu
          have ex5 : (i32 (us s : Int) - i32 ((S0 + 1 : Nat) : Int)) * i32 ((1 : Nat) : Int) + 0 = i32 ((us s - (S0 + 1) : Nat) : Int) := by
            rw [i32_sub, i32_mul, show (0 : Int32) = i32 0 from rfl, i32_add]; congr 1; omega
          refine ⟨wl σ 188 (s - (S0 + 1)) (rl σ 188 (us s - (S0 + 1))), .int (i32 ((1 : Nat) : Int)), ?_, frX_wl rfl, fun i hi => by rw [rl_wl, if_neg (fun q => hi q.2)], fun _ j hj => ?_⟩
          · rw [e107, e143, c2_ge (by omega) (by omega) (by omega) (by omega), c_t (by omega), e352_174, h94, h90', ex5, c_in (by omega) (by omega) (by omega), i32_ixn (by omega), end1]
          · rw [rl_wl, if_pos ⟨rfl, rfl⟩]
            exact hB w (us s) hgu g5 j hj
    have hZ1 : MZ N G r hl hv H S s1 := hZ.X k2 ⟨rfl, rfl, rfl⟩ ⟨rfl, rfl, rfl, rfl⟩ ⟨rfl, rfl, rfl⟩ ⟨rfl, rfl⟩
    have hfm1 : frG4 τ0 s1 := hfm.trans (k2.sub rfl rfl rfl)
    obtain ⟨s2, y, r1, r2, r3, r4, r5⟩ := reach_one (L := L) (xs := xs) (nm := nm) (A := 188) (i := (s - (S0 + 1)) * wd) (B0 := fun j => bitL (rl s1 188 ((s - (S0 + 1)) * wd)) j) (REQ.r188 (L := L) (xs := xs) (by omega)) hq hZ1 (by omega) t2 (fun t ht hlt => by rw [hfm1.rd (j := 184) rfl]; exact hnm t (vs s) hlt g3 g4 ht) (fun j hj => Iff.rfl) d
    have hfm2 : frG4 τ0 s2 := hfm1.trans (r4.sub rfl rfl rfl)
    have h94b : rd s2 123 94 = i32 ((S0 + 1 : Nat) : Int) := by rw [r4.2.1 94 rfl, k2.2.1 94 rfl]; exact h94
    obtain ⟨σ', w2, w3, w4, w5, w6, z1, z2, z3, z4, z5, z6⟩ := ih (s + 1) (S + 1) s2 (jk (dj v2)) (.int (i32 (((s - (S0 + 1)) * wd : Nat) : Int))) (jk (dj (.int (i32 (us s : Int))))) (.int y) (by omega) (by omega) (by omega) r2 hfm2 h94b (fun hw s' h1 h2 => by
      rw [hw, Nat.mul_one] at r3 r5
      by_cases es : s' = s
      · rw [es]
        intro j hj
        refine (r3 j hj).trans ?_
        show (bitL (rl s1 188 (s - (S0 + 1))) j ∨ nbR G r (hC hl hv) nm (fun b => b = vM τ0 (vs s)) j) ↔ _
        rw [k4 hw j hj, g7, ← nbR.or]
        refine nbR.congr (fun b => ?_)
        constructor
        · rintro (⟨v, hv, e⟩ | e)
          · exact ⟨v, List.mem_cons_of_mem _ hv, e⟩
          · exact ⟨vs s, List.mem_cons_self, e⟩
        · rintro ⟨v, hv, e⟩
          rcases List.mem_cons.mp hv with k | k
          · rw [k] at e; exact .inr e
          · exact .inl ⟨v, k, e⟩
      · intro j hj
        rw [r5 _ (by omega), k3 _ (by omega)]
        exact hB hw s' h1 (by omega) j hj)
    refine ⟨σ', w2, w3, w4, w5, w6, ?_, by rw [show S + (j + 1) = S + 1 + j by omega]; exact z2, z3, z4, fun i => ?_, z6⟩
    · have e149 : rd s1 149 s = i32 (vs s : Int) := (hfm1.rd (j := 149) rfl s).trans g1
      have e179 : rd s1 179 (vs s) = i32 (vM τ0 (vs s) : Int) := (hfm1.rd (j := 179) rfl _).trans t1
      have r1' : rn L xs (d + 4) 353 0 [.ref 123, .int (i32 (vM τ0 (vs s) : Int)), .ref 188, .int (i32 (((s - (S0 + 1)) * wd : Nat) : Int)), jv, jv, jv, jv] [] (wr s1 123 72 (rd s1 123 72 + 1)) = some (.inl (some (.int y)), s2) := r1
      rw [k1, e352_201 (d + 4), c_in (by omega) (by omega) (by omega), i32_ixn (by omega), e149, c_in (by omega) (by omega) (by omega), i32_ixn (by omega), e179, bI_ok r1', i32_up]
      exact z1
    · rw [z5, r4.2.2.1 189 rfl, k2.2.2.1 189 rfl]
/-- what a part shares, in the model -/
def Bsm (D : pgD) (f : Nat) (τ : tvS) (p b : Nat) : Prop := b = oM τ p ∨ (∃ v, v ∈ D.sl p ∧ b = vM τ v) ∨ b = rM τ f
theorem prt_loop {N : Nat} {G : tG} {r : Nat → Nat} {hl : Nat → List Nat} {hv nm : Nat → Nat} {H wd S0 S1 : Nat} {vs us sc : Nat → Nat} {cl : Nat → List Nat} {BA : Nat → Prop} (hq : MQt N G r hl hv) (hF : PGF D m) (hf : f ≤ D.fc) {σ0 : tvS} (hR : PGR D σ0 τ0) (hty : TYm D f N τ0) (hsc : SCm D f S0 S1 vs us sc cl τ0) (hwd : wd ≤ 1) (h90 : rd τ0 123 90 = i32 (wd : Int)) (hnm : ∀ t p, t < N → D.bP f ≤ p → p < D.bP (f + 1) → RQ G r (hC hl hv) (fun b => b = oM τ0 p) t → r t = t → 2 ≤ G.1 t → rd τ0 184 t = i32 (nm t : Int) ∧ nm t ≤ 60) (d : Nat) : ∀ (j p S : Nat) (σ : tvS) (v2 v4 v5 v6 : Value), p + j = D.bP (f + 1) → D.bP f ≤ p → S + j < 2147483648 → MZ N G r hl hv H S σ → frG4 τ0 σ → rd σ 123 94 = i32 ((S0 + 1 : Nat) : Int) → (wd = 1 → LBt 189 0 σ (nbR G r (hC hl hv) nm BA)) → (wd = 1 → ∀ s', S0 < s' → s' ≤ S1 → LBt 188 (s' - (S0 + 1)) σ (nbR G r (hC hl hv) nm (clBm τ0 (cl s')))) → (wd = 1 → ∀ p', D.bP f ≤ p' → p' < p → LBt 187 (p' - D.bP f) σ (nbR G r (hC hl hv) nm (fun b => (BA b ∨ clBm τ0 (D.sl p') b) ∨ b = oM τ0 p'))) →
    ∃ (σ' : tvS), rn L xs (d + 5) 352 247 [.ref 123, .int (i32 (f : Int)), v2, .int (i32 (p : Int)), v4, v5, v6] [] σ = some (.inl none, σ') ∧ MZ N G r hl hv H (S + j) σ' ∧ frG4 τ0 σ' ∧ rd σ' 123 94 = i32 ((S0 + 1 : Nat) : Int) ∧ (wd = 1 → ∀ p', D.bP f ≤ p' → p' < D.bP (f + 1) → LBt 187 (p' - D.bP f) σ' (nbR G r (hC hl hv) nm (fun b => (BA b ∨ clBm τ0 (D.sl p') b) ∨ b = oM τ0 p'))) := by
  have hb4 := hF.1
  have hbl := (hF.le (D.fc + 1 - (f + 1)) (f + 1) (by omega))
  have hff := hR.1 f hf
  obtain ⟨⟨c1, c2, c3, c4⟩, c5, c6, c7⟩ := hsc
  intro j
  induction j with
  | zero =>
    intro p S σ v2 v4 v5 v6 e hp hS hZ hfm h94 hA hB hP
    have e : p = D.bP (f + 1) := by omega
    subst e
    refine ⟨σ, ?_, hZ, hfm, h94, hP⟩
    rw [e352_247, i32_up, c_in (by omega) (by omega) (by omega), i32_ixn (by omega), hfm.rd (j := 143) rfl, hff.2.1.2.2.2.2.1, c2_ge (by omega) (by omega) (by omega) (by omega), c_t (by omega), e352_385]
  | succ j ih =>
    intro p S σ v2 v4 v5 v6 e hp hS hZ hfm h94 hA hB hP
    obtain ⟨g1, g2, g3⟩ := c7 p hp (by omega)
    obtain ⟨t1, t2⟩ := hty.1 p hp (by omega)
    have h90' : rd σ 123 90 = i32 (wd : Int) := (hfm.2.1 90 rfl).trans h90
    have e143' : rd σ 143 f = i32 (D.bP f : Int) := (hfm.rd (j := 143) rfl f).trans hff.2.1.2.2.2.1
    have ex4 : (i32 (p : Int) - i32 (D.bP f : Int)) * i32 (wd : Int) = i32 (((p - D.bP f) * wd : Nat) : Int) := by
      rw [i32_sub, i32_mul]; congr 1
      rw [show (p : Int) - (D.bP f : Int) = ((p - D.bP f : Nat) : Int) by omega]; exact (Int.natCast_mul _ _).symm
    have hto : (p - D.bP f) * wd ≤ 4001 := by
      have : wd = 0 ∨ wd = 1 := by omega
      rcases this with w | w
      · rw [w, Nat.mul_zero]; omega
      · rw [w, Nat.mul_one]; omega
    obtain ⟨s1, u5, u6, k1, k2, k3, k4⟩ : ∃ (s1 : tvS) (u5 u6 : Value), rn L xs (d + 5) 352 247 [.ref 123, .int (i32 (f : Int)), v2, .int (i32 (p : Int)), v4, v5, v6] [] σ = rn L xs (d + 5) 352 351 [.ref 123, .int (i32 (f : Int)), v2, .int (i32 (p : Int)), .int (i32 (((p - D.bP f) * wd : Nat) : Int)), u5, u6] [] s1 ∧ frX [] [] [187] σ s1 ∧ (∀ i, i ≠ p - D.bP f → rl s1 187 i = rl σ 187 i) ∧ (wd = 1 → LBt 187 (p - D.bP f) s1 (nbR G r (hC hl hv) nm (fun b => BA b ∨ clBm τ0 (D.sl p) b))) := by
      have e247 : rn L xs (d + 5) 352 247 [.ref 123, .int (i32 (f : Int)), v2, .int (i32 (p : Int)), v4, v5, v6] [] σ = rn L xs (d + 5) 352 285 [.ref 123, .int (i32 (f : Int)), v2, .int (i32 (p : Int)), .int (i32 (((p - D.bP f) * wd : Nat) : Int)), .int (i32 (sc p : Int)), .int 0] [] σ := by
        rw [e352_247, i32_up, c_in (by omega) (by omega) (by omega), i32_ixn (by omega), hfm.rd (j := 143) rfl, hff.2.1.2.2.2.2.1, c2_ge (by omega) (by omega) (by omega) (by omega), c_f (by omega), c_in (by omega) (by omega) (by omega), c_in (by omega) (by omega) (by omega), i32_ixn (by omega), i32_ixn (by omega), e143', hfm.rd (j := 160) rfl, g1, h90', ex4]
      have hw01 : wd = 0 ∨ wd = 1 := by omega
      rcases hw01 with w | w
      · refine ⟨σ, .int (i32 (sc p : Int)), .int 0, ?_, frX.refl, fun _ _ => rfl, fun h => by omega⟩
        rw [e247, e352_285, h90', w, show (0 : Int32) = i32 ((0 : Nat) : Int) from rfl, c2_ge (by omega) (by omega) (by omega) (by omega), c_t (by omega)]
      · rw [w, Nat.mul_one] at e247
        rw [w] at h90'
        rw [w, Nat.mul_one]
        have e0 : i32 ((p - D.bP f : Nat) : Int) + 0 = i32 ((p - D.bP f : Nat) : Int) := by rw [show (0 : Int32) = i32 0 from rfl, i32_add, Int.add_zero]
        have end1 : ∀ (x y : Int64), rn L xs (d + 5) 352 343 [.ref 123, .int (i32 (f : Int)), v2, .int (i32 (p : Int)), .int (i32 ((p - D.bP f : Nat) : Int)), .int (i32 (sc p : Int)), .int 0] [.long y, .long x, .int (i32 ((p - D.bP f : Nat) : Int)), .ref 187] σ = rn L xs (d + 5) 352 351 [.ref 123, .int (i32 (f : Int)), v2, .int (i32 (p : Int)), .int (i32 ((p - D.bP f : Nat) : Int)), .int (i32 (sc p : Int)), .int (i32 ((1 : Nat) : Int))] [] (wl σ 187 (p - D.bP f) (x ||| y)) := fun x y => by
          have h90w : rd (wl σ 187 (p - D.bP f) (x ||| y)) 123 90 = i32 ((1 : Nat) : Int) := h90'
          rw [e352_343, c_in (by omega) (by omega) (by omega), i32_ixn (by omega), e352_285, h90w, show (0 : Int32) + 1 = i32 ((1 : Nat) : Int) from rfl, c2_ge (by omega) (by omega) (by omega) (by omega), c_t (by omega)]
        have e285 : rn L xs (d + 5) 352 285 [.ref 123, .int (i32 (f : Int)), v2, .int (i32 (p : Int)), .int (i32 ((p - D.bP f : Nat) : Int)), .int (i32 (sc p : Int)), .int 0] [] σ = cond (pv_c2 .ge (i32 (sc p : Int)) (i32 ((S0 + 1 : Nat) : Int))) (rn L xs (d + 5) 352 323 [.ref 123, .int (i32 (f : Int)), v2, .int (i32 (p : Int)), .int (i32 ((p - D.bP f : Nat) : Int)), .int (i32 (sc p : Int)), .int 0] [.long (rl σ 189 0), .int (i32 ((p - D.bP f : Nat) : Int)), .ref 187] σ) (rn L xs (d + 5) 352 343 [.ref 123, .int (i32 (f : Int)), v2, .int (i32 (p : Int)), .int (i32 ((p - D.bP f : Nat) : Int)), .int (i32 (sc p : Int)), .int 0] [.long 0, .long (rl σ 189 0), .int (i32 ((p - D.bP f : Nat) : Int)), .ref 187] σ) := by
          rw [e352_285, h90', h94, e0, show (0 : Int32) = i32 ((0 : Nat) : Int) from rfl, c2_ge (by omega) (by omega) (by omega) (by omega), c_f (by omega), c_in (by omega) (by omega) (by omega), i32_ixn (by omega)]
        have key : ∀ y : Int64, (∀ j, j < 64 → (bitL y j ↔ nbR G r (hC hl hv) nm (clBm τ0 (D.sl p)) j)) → LBt 187 (p - D.bP f) (wl σ 187 (p - D.bP f) (rl σ 189 0 ||| y)) (nbR G r (hC hl hv) nm (fun b => BA b ∨ clBm τ0 (D.sl p) b)) := fun y hy j hj => by
          rw [rl_wl, if_pos ⟨rfl, rfl⟩, bit_or, hA w j hj, hy j hj, nbR.or]
        by_cases cu : sc p = 0
        · refine ⟨wl σ 187 (p - D.bP f) (rl σ 189 0 ||| 0), .int (i32 (sc p : Int)), .int (i32 ((1 : Nat) : Int)), ?_, frX_wl rfl, fun i hi => by rw [rl_wl, if_neg (fun q => hi q.2)], fun _ => key 0 (fun j hj => ?_)⟩
          · rw [e247, e285, c2_ge (by omega) (by omega) (by omega) (by omega), c_f (by omega), end1]
          · rw [← g3, cu, c6]
            refine ⟨fun k => absurd k (bit_zero j), fun ⟨t, _, q, _, _⟩ => ?_⟩
            exact absurd (q (fun _ => False) (fun _ _ _ k => k) (fun _ _ k _ _ => k) (fun _ _ k _ => k) (fun b ⟨v, hv, _⟩ => by cases hv)) (fun k => k)
        · obtain ⟨hg1, hg2⟩ := g2.resolve_left cu
          have ex5 : (i32 (sc p : Int) - i32 ((S0 + 1 : Nat) : Int)) * i32 ((1 : Nat) : Int) + 0 = i32 ((sc p - (S0 + 1) : Nat) : Int) := by
            rw [i32_sub, i32_mul, show (0 : Int32) = i32 0 from rfl, i32_add]; congr 1; omega
          refine ⟨wl σ 187 (p - D.bP f) (rl σ 189 0 ||| rl σ 188 (sc p - (S0 + 1))), .int (i32 (sc p : Int)), .int (i32 ((1 : Nat) : Int)), ?_, frX_wl rfl, fun i hi => by rw [rl_wl, if_neg (fun q => hi q.2)], fun _ => key _ (fun j hj => ?_)⟩
          · rw [e247, e285, c2_ge (by omega) (by omega) (by omega) (by omega), c_t (by omega), e352_323, h94, h90', ex5, c_in (by omega) (by omega) (by omega), i32_ixn (by omega), end1]
          · rw [← g3]; exact hB w (sc p) hg1 hg2 j hj
    have hZ1 : MZ N G r hl hv H S s1 := hZ.X k2 ⟨rfl, rfl, rfl⟩ ⟨rfl, rfl, rfl, rfl⟩ ⟨rfl, rfl, rfl⟩ ⟨rfl, rfl⟩
    have hfm1 : frG4 τ0 s1 := hfm.trans (k2.sub rfl rfl rfl)
    obtain ⟨s2, y, r1, r2, r3, r4, r5⟩ := reach_one (L := L) (xs := xs) (nm := nm) (A := 187) (i := (p - D.bP f) * wd) (B0 := fun j => bitL (rl s1 187 ((p - D.bP f) * wd)) j) (REQ.r187 (L := L) (xs := xs) (by omega)) hq hZ1 (by omega) t2 (fun t ht hlt => by rw [hfm1.rd (j := 184) rfl]; exact hnm t p hlt hp (by omega) ht) (fun j hj => Iff.rfl) d
    have hfm2 : frG4 τ0 s2 := hfm1.trans (r4.sub rfl rfl rfl)
    have h94b : rd s2 123 94 = i32 ((S0 + 1 : Nat) : Int) := by rw [r4.2.1 94 rfl, k2.2.1 94 rfl]; exact h94
    obtain ⟨σ', z1, z2, z3, z4, z6⟩ := ih (p + 1) (S + 1) s2 (jk (dj v2)) (.int (i32 (((p - D.bP f) * wd : Nat) : Int))) (jk (dj u5)) (.int y) (by omega) (by omega) (by omega) r2 hfm2 h94b (fun hw j hj => by rw [r4.2.2.1 189 rfl, k2.2.2.1 189 rfl]; exact hA hw j hj) (fun hw s' h1 h2 j hj => by rw [r4.2.2.1 188 rfl, k2.2.2.1 188 rfl]; exact hB hw s' h1 h2 j hj) (fun hw p' h1 h2 => by
      rw [hw, Nat.mul_one] at r3 r5
      by_cases es : p' = p
      · rw [es]
        intro j hj
        refine (r3 j hj).trans ?_
        show (bitL (rl s1 187 (p - D.bP f)) j ∨ nbR G r (hC hl hv) nm (fun b => b = oM τ0 p) j) ↔ _
        rw [k4 hw j hj, ← nbR.or]
      · intro j hj
        rw [r5 _ (by omega), k3 _ (by omega)]
        exact hP hw p' h1 (by omega) j hj)
    refine ⟨σ', ?_, by rw [show S + (j + 1) = S + 1 + j by omega]; exact z2, z3, z4, z6⟩
    have e178 : rd s1 178 p = i32 (oM τ0 p : Int) := (hfm1.rd (j := 178) rfl p).trans t1
    have r1' : rn L xs (d + 4) 353 0 [.ref 123, .int (i32 (oM τ0 p : Int)), .ref 187, .int (i32 (((p - D.bP f) * wd : Nat) : Int)), jv, jv, jv, jv] [] (wr s1 123 72 (rd s1 123 72 + 1)) = some (.inl (some (.int y)), s2) := r1
    rw [k1, e352_351 (d + 4), c_in (by omega) (by omega) (by omega), i32_ixn (by omega), e178, bI_ok r1', i32_up]
    exact z1
/-- types of a function -/
def FTm (D : pgD) (f : Nat) (τ : tvS) (b : Nat) : Prop := (∃ p, D.bP f ≤ p ∧ p < D.bP (f + 1) ∧ b = oM τ p) ∨ (∃ v, D.tV f ≤ v ∧ v < D.tV (f + 1) ∧ b = vM τ v) ∨ b = rM τ f
theorem gather_m {N : Nat} {G : tG} {r : Nat → Nat} {hl : Nat → List Nat} {hv nm : Nat → Nat} {H wd S S0 S1 : Nat} {vs us sc : Nat → Nat} {cl : Nat → List Nat} (hq : MQt N G r hl hv) (hF : PGF D m) (hf : f ≤ D.fc) {σ0 : tvS} (hR : PGR D σ0 σ) (hty : TYm D f N σ) (hsc : SCm D f S0 S1 vs us sc cl σ) (hwd : wd ≤ 1) (h90 : rd σ 123 90 = i32 (wd : Int)) (hnm : ∀ t, t < N → RQ G r (hC hl hv) (FTm D f σ) t → r t = t → 2 ≤ G.1 t → rd σ 184 t = i32 (nm t : Int) ∧ nm t ≤ 60) (hZ : MZ N G r hl hv H S σ) (hS : S + 1 + (S1 - S0) + (D.bP (f + 1) - D.bP f) < 2147483648) (d : Nat) (v2 v3 v4 v5 v6 : Value) :
    ∃ (σ' : tvS), rn L xs (d + 5) 352 0 [.ref 123, .int (i32 (f : Int)), v2, v3, v4, v5, v6] [] σ = some (.inl none, σ') ∧ MZ N G r hl hv H (S + 1 + (S1 - S0) + (D.bP (f + 1) - D.bP f)) σ' ∧ frG4 σ σ' ∧ rd σ' 123 94 = i32 ((S0 + 1 : Nat) : Int) ∧ (wd = 1 → ∀ p, D.bP f ≤ p → p < D.bP (f + 1) → LBt 187 (p - D.bP f) σ' (nbR G r (hC hl hv) nm (Bsm D f σ p))) := by
  have hb4 := hF.1
  have hbl := (hF.le (D.fc + 1 - (f + 1)) (f + 1) (by omega))
  have hPf := hF.2.2 f hf
  have hff := hR.1 f hf
  have hsc' := hsc
  obtain ⟨⟨c1, c2, c3, c4⟩, c5, c6, c7⟩ := hsc
  obtain ⟨q1, q2, q3, q4, q5⟩ := id hq
  have htv := hPf.1.2.1
  -- all bits are cleared
  obtain ⟨s0, u2, k1, k2, k3⟩ : ∃ (s0 : tvS) (u2 : Value), rn L xs (d + 5) 352 0 [.ref 123, .int (i32 (f : Int)), v2, v3, v4, v5, v6] [] σ = rn L xs (d + 5) 352 23 [.ref 123, .int (i32 (f : Int)), u2, v3, v4, v5, v6] [] s0 ∧ frX [] [] [189] σ s0 ∧ (wd = 1 → rl s0 189 0 = 0) := by
    have hw01 : wd = 0 ∨ wd = 1 := by omega
    rcases hw01 with w | w
    · refine ⟨σ, .int 0, ?_, frX.refl, fun h => by omega⟩
      rw [e352_0, e352_2, h90, w, show (0 : Int32) = i32 ((0 : Nat) : Int) from rfl, c2_ge (by omega) (by omega) (by omega) (by omega), c_t (by omega)]
    · refine ⟨wl σ 189 0 0, .int (i32 ((1 : Nat) : Int)), ?_, frX_wl rfl, fun _ => by rw [rl_wl, if_pos ⟨rfl, rfl⟩]⟩
      have h90w : rd (wl σ 189 0 0) 123 90 = i32 ((1 : Nat) : Int) := by rw [← w]; exact h90
      rw [e352_0, e352_2, h90, w, show (0 : Int32) = i32 ((0 : Nat) : Int) from rfl, c2_ge (by omega) (by omega) (by omega) (by omega), c_f (by omega), c_in (by omega) (by omega) (by omega), i32_ixn (by omega), e352_2, i32_up, h90w, c2_ge (by omega) (by omega) (by omega) (by omega), c_t (by omega)]
  have hZ0 : MZ N G r hl hv H S s0 := hZ.X k2 ⟨rfl, rfl, rfl⟩ ⟨rfl, rfl, rfl, rfl⟩ ⟨rfl, rfl, rfl⟩ ⟨rfl, rfl⟩
  have hD0 := RMD.new hZ0.1 hZ0.2.1 hZ0.2.2 (by omega)
  have hf0 : frG4 σ s0 := k2.sub rfl rfl rfl
  have w1 : frM [] [72] s0 (wr s0 123 72 (rd s0 123 72 + 1)) := frM_w rfl
  have hf1 : frG4 σ (wr s0 123 72 (rd s0 123 72 + 1)) := hf0.trans ((w1.X [187, 188, 189]).sub rfl rfl rfl)
  have hD1 : RMD N G r hl hv H (S + 1) (fun b => ∃ v, D.tV f ≤ v ∧ v < D.tV f + 0 ∧ b = vM σ v) [] (wr s0 123 72 (rd s0 123 72 + 1)) := ⟨hD0.1.rx (fun y k => k.mono (fun b k => k.elim)), fun b ⟨v, v1, v2, _⟩ => by omega⟩
  obtain ⟨s2, DL2, w2, w3, w4, w5, w6, a1, a2, a3, a4⟩ := all_loop (L := L) (xs := xs) (nm := nm) (b0 := fun j => bitL (rl s0 189 0) j) hq (show S + 1 < 2147483648 by omega) hF hf hR hty (fun t hlt ht => hnm t hlt (ht.mono (fun b kb => by
    rcases kb with ⟨v, v1, v2, v3⟩ | k
    · exact .inr (.inl ⟨v, v1, by omega, v3⟩)
    · exact .inr (.inr k)))) d (D.bk f) 0 [] _ v3 v4 v5 v6 (by omega) hD1 hf1 (fun j hj => ⟨.inl, fun q => q.elim id (fun ⟨t, t1, _⟩ => by cases t1)⟩)
  obtain ⟨s3, DL3, b1, b2, b3, b4, b5⟩ := reach_call (L := L) (xs := xs) (nm := nm) (REQ.r189 (L := L) (xs := xs) (i := 0) (by omega)) (LBt.bwr 189 0) (show S + 1 < 2147483648 by omega) q1 q2 q4 a2 hty.2.2.2 (fun t ht hlt => by
    rw [a3.rd (j := 184) rfl]
    refine hnm t hlt (ht.mono (fun b kb => ?_))
    rcases kb with ⟨v, v1, v2, v3⟩ | k
    · exact .inr (.inl ⟨v, v1, by omega, v3⟩)
    · exact .inr (.inr k)) a4 d jv jv jv jv
  have hf3 : frG4 σ s3 := a3.trans (b5.sub rfl rfl rfl)
  have e202 : rd s3 202 f = i32 ((S0 + 1 : Nat) : Int) := (hf3.rd (j := 202) rfl f).trans c1
  have w94 : frM [] [94] s3 (wr s3 123 94 (i32 ((S0 + 1 : Nat) : Int))) := frM_w rfl
  have hZ4 : MZ N G r hl hv H (S + 1) (wr s3 123 94 (i32 ((S0 + 1 : Nat) : Int))) := (MZ.of b2).X (w94.X []) ⟨rfl, rfl, rfl⟩ ⟨rfl, rfl, rfl, rfl⟩ ⟨rfl, rfl, rfl⟩ ⟨rfl, rfl⟩
  have hf4 : frG4 σ (wr s3 123 94 (i32 ((S0 + 1 : Nat) : Int))) := hf3.trans ((w94.X [187, 188, 189]).sub rfl rfl rfl)
  obtain ⟨s5, x2, x3, x4, x5, x6, d1, d2, d3, d4, d5, d6⟩ := scp_loop (L := L) (xs := xs) (nm := nm) (τ0 := σ) hq hF hf hty hsc' hwd h90 (fun t v hlt v1 v2 ht => hnm t hlt (ht.mono (fun b kb => .inr (.inl ⟨v, v1, v2, kb⟩)))) d (S1 - S0) (S0 + 1) (S + 1) (wr s3 123 94 (i32 ((S0 + 1 : Nat) : Int))) (.int (i32 (((bxs G DL3).length - (bxs G DL2).length : Nat) : Int))) (dj w4) (dj w5) (dj w6) (by omega) (by omega) (by omega) hZ4 hf4 (wr_self _ _ _ _) (fun _ s' h1 h2 => by omega)
  have hA : wd = 1 → LBt 189 0 s5 (nbR G r (hC hl hv) nm (fun b => (∃ v, D.tV f ≤ v ∧ v < D.tV f + D.bk f ∧ b = vM σ v) ∨ b = rM σ f)) := fun hw j hj => by
    rw [d5, show rl (wr s3 123 94 (i32 ((S0 + 1 : Nat) : Int))) 189 0 = rl s3 189 0 from rfl]
    refine (b3 j hj).trans ((bxs_step b4).trans ?_)
    rw [k3 hw]
    constructor
    · rintro (k | ⟨t, t1, t2⟩)
      · exact absurd k (bit_zero j)
      · obtain ⟨g1, g2, g3⟩ := (b2.iff q5 q2 q3 q4 t).mp t1
        exact ⟨t, g1, g2, g3, t2⟩
    · rintro ⟨t, g1, g2, g3, t2⟩
      exact .inr ⟨t, (b2.iff q5 q2 q3 q4 t).mpr ⟨g1, g2, g3⟩, t2⟩
  have hlt := hPf.1.1
  obtain ⟨σ', z1, z2, z3, z4, z5⟩ := prt_loop (L := L) (xs := xs) (nm := nm) (τ0 := σ) (BA := fun b => (∃ v, D.tV f ≤ v ∧ v < D.tV f + D.bk f ∧ b = vM σ v) ∨ b = rM σ f) hq hF hf hR hty hsc' hwd h90 (fun t p hlt p1 p2 ht => hnm t hlt (ht.mono (fun b kb => .inl ⟨p, p1, p2, kb⟩))) d (D.bP (f + 1) - D.bP f) (D.bP f) (S + 1 + (S1 - S0)) s5 (jk x2) x4 x5 x6 (by omega) (Nat.le_refl _) (by omega) d2 d3 d4 hA d6 (fun _ p' h1 h2 => by omega)
  refine ⟨σ', ?_, z2, z3, z4, fun hw p h1 h2 j hj => (z5 hw p h1 h2 j hj).trans (nbR.congr (fun b => ?_))⟩
  · have b1' : rn L xs (d + 4) 353 0 [.ref 123, .int (i32 (rM σ f : Int)), .ref 189, .int 0, jv, jv, jv, jv] [] s2 = some (.inl (some (.int (i32 (((bxs G DL3).length - (bxs G DL2).length : Nat) : Int)))), s3) := b1
    have a1' : rn L xs (d + 5) 352 35 [.ref 123, .int (i32 (f : Int)), .int 0, v3, v4, v5, v6] [] (wr s0 123 72 (rd s0 123 72 + 1)) = rn L xs (d + 5) 352 74 [.ref 123, .int (i32 (f : Int)), w2, w3, w4, w5, w6] [] s2 := a1
    rw [k1, e352_23, a1', e352_74 (d + 4), c_in (by omega) (by omega) (by omega), i32_ixn (by omega), a3.rd (j := 180) rfl, hty.2.2.1, bI_ok b1', c_in (by omega) (by omega) (by omega), c_in (by omega) (by omega) (by omega), e202, d1, e352_240, c_in (by omega) (by omega) (by omega), i32_ixn (by omega), d3.rd (j := 143) rfl, hff.2.1.2.2.2.1]
    exact z1
  · unfold Bsm clBm
    constructor
    · rintro (((⟨v, v1, v2, v3⟩ | k) | ⟨v, v1, v2⟩) | k)
      · exact .inr (.inl ⟨v, hPf.scP v1 v2 (D.bP (f + 1)) p (by omega) h1 h2, v3⟩)
      · exact .inr (.inr k)
      · exact .inr (.inl ⟨v, v1, v2⟩)
      · exact .inl k
    · rintro (k | ⟨v, v1, v2⟩ | k)
      · exact .inr k
      · exact .inl (.inr ⟨v, v1, v2⟩)
      · exact .inl (.inl (.inr k))
end GATHERM
