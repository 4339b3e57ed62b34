/-! READING: a new variable, in none's scope yet -/
/-- what hinders a new variable: 0 is nothing -/
def vck (σ : tvS) (a A g fc : Nat) (l : List Nat) : Nat := if a ≠ 1 then 2 else if (l.find? fun v => decide (rl σ 29 v = rl σ 12 A)) ≠ none ∨ fIx (fun f => decide (rl σ 42 f = rl σ 12 A)) (min (g + 1) fc) 0 ≠ none then 3 else if l.length = 40 then 6 else 0
def cVar (σ : tvS) (A V : Nat) (x : Int32) (k : Nat) : tvS := wr (wr (wr (wr (wl (wr (wr σ 62 3 (i32 (A + 1 : Nat))) 15 19 (i32 (V + 1 : Nat))) 29 V (rl σ 12 A)) 30 V (i32 A)) 31 V (rd σ 62 6)) 32 V x) 33 V (i32 (k + 1 : Nat))
def mVar (τ : tvS) (A V : Nat) : tvS := wr (wr (wr (wr τ 145 V (rd τ 129 A)) 146 V (i32 A)) 123 36 (i32 (V + 1 : Nat))) 123 17 (i32 (A + 1 : Nat))
section NEWV
variable {L : Nat} {xs : Nat → Int32} {K1 K2 m : Nat} {μ : Nat → Nat} {g fc : Nat} {sc : List Nat} {fs fs' : List (Nat × Nat × List Nat)} {F D H n A P r r0 : Nat} {σ τ σ' τ' σ1 τ1 : tvS}
theorem cVar_oth {V k : Nat} {x : Int32} {j i : Nat} (h1 : ¬ (j = 62 ∧ i = 3)) (h2 : ¬ (j = 15 ∧ i = 19)) (h3 : ¬ (30 ≤ j ∧ j ≤ 33 ∧ i = V)) : rd (cVar σ A V x k) j i = rd σ j i := by
  unfold cVar
  rw [rd_wr, if_neg (by omega), rd_wr, if_neg (by omega), rd_wr, if_neg (by omega), rd_wr, if_neg (by omega)]
  show rd (wr (wr σ 62 3 (i32 (A + 1 : Nat))) 15 19 (i32 (V + 1 : Nat))) j i = _
  rw [rd_wr, if_neg (by omega), rd_wr, if_neg (by omega)]
theorem cVar_at {V k : Nat} {x : Int32} : rd (cVar σ A V x k) 30 V = i32 A ∧ rd (cVar σ A V x k) 31 V = rd σ 62 6 ∧ rd (cVar σ A V x k) 32 V = x ∧ rd (cVar σ A V x k) 33 V = i32 (k + 1 : Nat) ∧ rd (cVar σ A V x k) 62 3 = i32 (A + 1 : Nat) ∧ rd (cVar σ A V x k) 15 19 = i32 (V + 1 : Nat) := by
  unfold cVar
  refine ⟨?_, ?_, ?_, ?_, ?_, ?_⟩
  · rw [wr_nek (by omega), wr_nek (by omega), wr_nek (by omega), rd_wr, if_pos ⟨rfl, rfl⟩]
  · rw [wr_nek (by omega), wr_nek (by omega), rd_wr, if_pos ⟨rfl, rfl⟩]
  · rw [wr_nek (by omega), rd_wr, if_pos ⟨rfl, rfl⟩]
  · rw [rd_wr, if_pos ⟨rfl, rfl⟩]
  · rw [wr_nek (by omega), wr_nek (by omega), wr_nek (by omega), wr_nek (by omega)]
    show rd (wr (wr σ 62 3 (i32 (A + 1 : Nat))) 15 19 (i32 (V + 1 : Nat))) 62 3 = _
    rw [wr_nek (by omega), rd_wr, if_pos ⟨rfl, rfl⟩]
  · rw [wr_nek (by omega), wr_nek (by omega), wr_nek (by omega), wr_nek (by omega)]
    show rd (wr (wr σ 62 3 (i32 (A + 1 : Nat))) 15 19 (i32 (V + 1 : Nat))) 15 19 = _
    rw [rd_wr, if_pos ⟨rfl, rfl⟩]
theorem cVar_rl {V k : Nat} {x : Int32} (j i : Nat) : rl (cVar σ A V x k) j i = if j = 29 ∧ i = V then rl σ 12 A else rl σ j i := by
  show rl (wl (wr (wr σ 62 3 (i32 (A + 1 : Nat))) 15 19 (i32 (V + 1 : Nat))) 29 V (rl σ 12 A)) j i = _
  rw [rl_wl]
  rfl
theorem cVar_2 {V k : Nat} {x : Int32} : (cVar σ A V x k).2.2 = σ.2.2 := rfl
theorem mVar_oth {V : Nat} {j i : Nat} (h1 : ¬ (j = 123 ∧ (i = 36 ∨ i = 17))) (h2 : ¬ (145 ≤ j ∧ j ≤ 146 ∧ i = V)) : rd (mVar τ A V) j i = rd τ j i := by
  unfold mVar
  rw [rd_wr, if_neg (by omega), rd_wr, if_neg (by omega), rd_wr, if_neg (by omega), rd_wr, if_neg (by omega)]
theorem mVar_at {V : Nat} : rd (mVar τ A V) 145 V = rd τ 129 A ∧ rd (mVar τ A V) 146 V = i32 A ∧ rd (mVar τ A V) 123 36 = i32 (V + 1 : Nat) ∧ rd (mVar τ A V) 123 17 = i32 (A + 1 : Nat) := by
  unfold mVar
  refine ⟨?_, ?_, ?_, ?_⟩
  · rw [wr_nek (by omega), wr_nek (by omega), wr_nek (by omega), rd_wr, if_pos ⟨rfl, rfl⟩]
  · rw [wr_nek (by omega), wr_nek (by omega), rd_wr, if_pos ⟨rfl, rfl⟩]
  · rw [rd_wr, if_neg (by omega), rd_wr, if_pos ⟨rfl, rfl⟩]
  · rw [rd_wr, if_pos ⟨rfl, rfl⟩]
/-- the component makes one -/
theorem cvar_run {V : Nat} {x : Int32} {l : List Nat} (hLV : LV m σ τ) (hμ : mu τ = μ) (hA : A ≤ m) (h62 : rd σ 62 3 = i32 A) (hch : chC σ l x) (hl : l.length ≤ 40) (hx : xnOK σ = true) (hfc : rd σ 15 38 = i32 fc) (hg : rd σ 62 7 = i32 g) (hfc2 : fc ≤ 20) (hg2 : g ≤ 20) (hV : rd σ 15 19 = i32 V) (hV2 : V < 4101) (d : Nat) :
    rn L xs (d + 4) 116 0 [.ref 62, .int x, jv, jv] [] σ = if vck σ (μ A) A g fc l = 0 then some (.inl (some (.int (i32 V))), cVar σ A V x l.length) else some (.inr (1016, (rm σ).1), cFlt σ (i32 (vck σ (μ A) A g fc l)) (rd σ 13 A)) := by
  have hm := hLV.1
  rw [e116_0 (d + 3), h62, bI_ok (r := rn L xs (d + 3) 57 0 [.ref 6, .int (i32 A)] [] σ) (x := rd σ 10 A) (σ := σ) (by rw [e57_0, c_in (by omega) (by omega) (by omega), i32_ixn (by omega)]), ck_name hLV hA, hμ]
  unfold vck
  by_cases q1 : μ A = 1
  · rw [decide_eq_true q1, cond_true, if_neg (show ¬ (μ A ≠ 1) from fun q => q q1), e116_24 (d + 3), h62, bL_ok (r := rn L xs (d + 3) 59 0 [.ref 6, .int (i32 A)] [] σ) (x := rl σ 12 A) (σ := σ) (by rw [e59_0, c_in (by omega) (by omega) (by omega), i32_ixn (by omega)]), bI_ok (cvar_ok (d + 2) (rl σ 12 A) hch)]
    have e65 : ∀ v3, rn L xs (d + 3 + 1) 116 65 [.ref 62, .int x, .long (rl σ 12 A), v3] [] σ = some (.inr (1016, (rm σ).1), cFlt σ 3 (rd σ 13 A)) := fun v3 => by
      rw [e116_65 (d + 3), h62, bV_ex (cfail_ok hLV hA hx (d + 1) 3)]
      rfl
    cases hv : (l.find? fun v => decide (rl σ 29 v = rl σ 12 A)) with
    | some v =>
      have hv4 := chC.mem l x hch v (List.mem_of_find?_eq_some hv)
      show cond (pv_c2 .ne (i32 (v : Int)) (i32 (-1))) _ _ = _
      rw [c2_ne (by omega) (by omega) (by omega) (by omega), c_t (by omega), e65, if_pos (Or.inl (by simp)), if_neg (by omega)]
      rfl
    | none =>
      show cond (pv_c2 .ne (i32 (-1)) (i32 (-1))) _ _ = _
      rw [c2_ne (by omega) (by omega) (by omega) (by omega), c_f (by omega), bI_ok (known_ok hfc hg hfc2 hg2 (d + 1)), bI_ok (cfun_ok (d + 2) (rl σ 12 A) (by omega))]
      cases hf : fIx (fun f => decide (rl σ 42 f = rl σ 12 A)) (min (g + 1) fc) 0 with
      | some f =>
        have hfl := fIx_lt _ _ _ hf
        show cond (pv_c2 .eq (i32 (f : Int)) (i32 (-1))) _ _ = _
        rw [c2_eq (by omega) (by omega) (by omega) (by omega), c_f (by omega), e65, if_pos (Or.inr (by simp)), if_neg (by omega)]
        rfl
      | none =>
        show cond (pv_c2 .eq (i32 (-1)) (i32 (-1))) _ _ = _
        rw [c2_refl, if_neg (show ¬ ((none : Option Nat) ≠ none ∨ (none : Option Nat) ≠ none) from fun q => q.elim (fun e => e rfl) (fun e => e rfl))]
        have e68 : ∀ v3, rn L xs (d + 3 + 1) 116 103 [.ref 62, .int x, .long (rl σ 12 A), v3] [] σ = some (.inl (some (.int (i32 V))), cVar σ A V x l.length) := fun v3 => by
          rw [e116_103 (d + 3), h62, i32_n1, i32_s1 (by omega), show A + 1 - 1 = A by omega]
          have g19 : rd (wr σ 62 3 (i32 (A + 1 : Nat))) 15 19 = i32 V := (wr_nek (by omega)).trans hV
          rw [bI_ok (r := rn L xs (d + 3) 68 0 _ _ _) (x := i32 V) (σ := cVar σ A V x l.length)]
          rw [e68_0 (d + 2), g19, c_in (by omega) (by omega) (by omega), c_in (by omega) (by omega) (by omega), c_in (by omega) (by omega) (by omega), c_in (by omega) (by omega) (by omega), i32_ixn (by omega), i32_n1]
          cases l with
          | nil =>
            have hx0 : x = i32 (-1) := hch
            rw [hx0]
            show cond (pv_c2 .ne (i32 (-1)) (i32 (-1))) _ _ = _
            rw [c2_ne (by omega) (by omega) (by omega) (by omega), c_f (by omega), e68_75, c_in (by omega) (by omega) (by omega), i32_ixn (by omega)]
            rfl
          | cons u t =>
            obtain ⟨k1, k2, k3, k4⟩ := hch
            rw [k1]
            show cond (pv_c2 .ne (i32 (u : Int)) (i32 (-1))) _ _ = _
            have key : ∀ s : tvS, (∀ i, rd s 33 i = rd σ 33 i) → rn L xs (d + 2 + 1) 68 66 [.ref 15, .long (rl σ 12 A), jv, .int (i32 A), .int (rd σ 62 6), .int (i32 u), .int (i32 V)] [.int (i32 V), .ref 33] s = some (.inl (some (.int (i32 V))), wr s 33 V (i32 ((t.length + 1 + 1 : Nat) : Int))) := fun s hs => by
              rw [e68_66 (d + 2), c_in (by omega) (by omega) (by omega), hs, i32_ixn (by omega), k3, i32_n1, e68_75, c_in (by omega) (by omega) (by omega), i32_ixn (by omega)]
            rw [c2_ne (by omega) (by omega) (by omega) (by omega), c_t (by omega)]
            exact key _ (fun i => rfl)
        rw [e116_74 (d + 3)]
        cases l with
        | nil =>
          have hx0 : x = i32 (-1) := hch
          rw [hx0]
          show cond (pv_c2 .eq (i32 (-1)) (i32 (-1))) _ _ = _
          rw [c2_refl, ← hx0, e68, if_neg (show ¬ (([] : List Nat).length = 40) by simp), if_pos rfl]
        | cons u t =>
          obtain ⟨k1, k2, k3, k4⟩ := hch
          have hxx : pv_c2 .eq x (Int32.ofInt (-1)) = false := by
            rw [k1, i32_raw, c2_eq (by omega) (by omega) (by omega) (by omega)]
            exact decide_eq_false (by omega)
          have hc1 : cond (pv_in x 4101) = cond (pv_in (i32 (u : Int)) 4101) (α := tvR) := by rw [k1]
          have h33 : rd σ 33 (ix x) = i32 ((t.length + 1 : Nat) : Int) := by rw [k1, i32_ixn (by omega)]; exact k3
          have hl : t.length + 1 ≤ 40 := hl
          rw [hxx, cond_false, hc1, c_in (by omega) (by omega) (by omega), h33, show (40 : Int32) = i32 ((40 : Nat) : Int) from rfl, c2_ne (by omega) (by omega) (by omega) (by omega)]
          by_cases q5 : t.length + 1 = 40
          · rw [c_f (by omega), h62, bV_ex (cfail_ok hLV hA hx (d + 1) 6), if_pos (show (u :: t).length = 40 from q5), if_neg (by omega)]
            rfl
          · rw [c_t (by omega), e68, if_neg (show ¬ (u :: t).length = 40 from q5), if_pos rfl]
  · rw [decide_eq_false q1, cond_false, if_pos q1, if_neg (by omega), h62, bV_ex (cfail_ok hLV hA hx (d + 1) 2)]
    rfl
/-- the model makes one -/
theorem ST_mvar_run {V S : Nat} (hLV : LV m σ τ) (hμ : mu τ = μ) (hA : A ≤ m) (h17 : rd τ 123 17 = i32 A) (h5 : rd τ 123 5 = 0) (hVA : VARS m V σ τ) (hS : SCP V S sc σ τ) (hV3 : V ≤ 3000) (hF : FUNS m fc σ τ) (hc : rd τ 123 27 = i32 fc) (hg : rd τ 123 28 = i32 g) (hg2 : g ≤ 20) (hV : rd τ 123 36 = i32 V) (d : Nat) :
    rn L xs (d + 2) 306 0 [.ref 123, jv, jv] [] τ = if vck σ (μ A) A g fc sc = 0 then some (.inl (some (.int (i32 V))), mVar τ A V) else some (.inl (some (.int 0)), mFlt τ (i32 (vck σ (μ A) A g fc sc)) (rd τ 127 A)) := by
  have hm := hLV.1
  have hfl : ∀ (k : Int32), rn L xs (d + 1) 291 0 [.ref 123, .int k, .int (rd τ 127 A)] [] τ = some (.inl none, mFlt τ k (rd τ 127 A)) := fun k => mfail_ok h5 d k _
  have hμ36 := (hLV.2.1 A hA).2.2
  rw [hμ] at hμ36
  have hmk := mkind_ok (L := L) (xs := xs) hLV hA h17 d
  rw [hμ] at hmk
  rw [e306_0 (d + 1), bI_ok hmk, show (1 : Int32) = i32 ((1 : Nat) : Int) from rfl, mcond (y := 1) rfl (by omega) (by omega), h17]
  unfold vck
  by_cases q1 : μ A = 1
  · have hlt : A < m := by
      apply Classical.byContradiction
      intro q
      have : A = m := by omega
      have h36 := hLV.2.2.1
      rw [hμ, ← this] at h36
      omega
    have hnm : nmR m σ τ (rl σ 12 A) (rd τ 129 A) := ⟨A, hlt, by rw [hμ]; exact q1, rfl, rfl⟩
    rw [if_pos q1, if_neg (show ¬ (μ A ≠ 1) from fun q => q q1), e306_24 (d + 1), h17, c_in (by omega) (by omega) (by omega), i32_ixn (by omega), bI_ok (mvar_ok hLV hVA hS hV3 d hnm)]
    have e52 : ∀ v1 v2, rn L xs (d + 1 + 1) 306 52 [.ref 123, v1, v2] [] τ = some (.inl (some (.int 0)), mFlt τ 3 (rd τ 127 A)) := fun v1 v2 => by
      rw [e306_52 (d + 1), h17, c_in (by omega) (by omega) (by omega), i32_ixn (by omega), bV_ok (hfl 3)]
    cases hv : (sc.find? fun v => decide (rl σ 29 v = rl σ 12 A)) with
    | some v =>
      have hv4 := hS.2.2.2.2.2.1 v (List.mem_of_find?_eq_some hv)
      show cond (pv_c2 .ne (i32 (v : Int)) (i32 (-1))) _ _ = _
      rw [c2_ne (by omega) (by omega) (by omega) (by omega), c_t (by omega), e52, if_pos (Or.inl (by simp)), if_neg (by omega)]
      rfl
    | none =>
      show cond (pv_c2 .ne (i32 (-1)) (i32 (-1))) _ _ = _
      rw [c2_ne (by omega) (by omega) (by omega) (by omega), c_f (by omega), bI_ok (mfun_ok hLV hF hc hg hg2 d hnm)]
      cases hf : fIx (fun f => decide (rl σ 42 f = rl σ 12 A)) (min (g + 1) fc) 0 with
      | some f =>
        have hfl2 := fIx_lt _ _ _ hf
        have := hF.1
        show cond (pv_c2 .eq (i32 (f : Int)) (i32 (-1))) _ _ = _
        rw [c2_eq (by omega) (by omega) (by omega) (by omega), c_f (by omega), e52, if_pos (Or.inr (by simp)), if_neg (by omega)]
        rfl
      | none =>
        show cond (pv_c2 .eq (i32 (-1)) (i32 (-1))) _ _ = _
        have hl := hS.2.2.2.1
        rw [c2_refl, if_neg (show ¬ ((none : Option Nat) ≠ none ∨ (none : Option Nat) ≠ none) from fun q => q.elim (fun e => e rfl) (fun e => e rfl)), e306_68 (d + 1), hS.2.2.1, show (40 : Int32) = i32 ((40 : Nat) : Int) from rfl, c2_lt (by omega) (by omega) (by omega) (by omega)]
        by_cases q5 : sc.length = 40
        · rw [c_f (by omega), h17, c_in (by omega) (by omega) (by omega), i32_ixn (by omega), bV_ok (hfl 6), if_pos q5, if_neg (by omega)]
          rfl
        · rw [c_t (by omega), e306_94 (d + 1), hV, h17, c_in (by omega) (by omega) (by omega), c_in (by omega) (by omega) (by omega), i32_ixn (by omega), i32_n1, i32_n1, if_neg q5, if_pos rfl]
          rfl
  · rw [if_neg q1, if_pos q1, if_neg (by omega), c_in (by omega) (by omega) (by omega), i32_ixn (by omega), bV_ok (hfl 2)]
    rfl
/-- the state of both, with one more -/
theorem CORE.newv {V : Nat} {x : Int32} {k : Nat} (h : CORE K1 K2 m μ g fc sc fs F A P r σ τ) (hP : P ≤ 4101) (hA : A < m) (hμ : μ A = 1) (hV : rd σ 15 19 = i32 V) (hV3 : V ≤ 3000) : CORE K1 K2 m μ g fc sc fs F (A + 1) P r (cVar σ A V x k) (mVar τ A V) := by
  obtain ⟨V', S, C, q, cp, a1, a2, ⟨a3, a4⟩, ⟨a5, a6, a7, a8⟩, a9, ⟨a10, a11⟩, a12, a13, a14, a15, a16, a17, b1, b2, b3, b4, b5, b6, b7, b8, b9⟩ := h
  have hm := a1.1
  have hVV : V' = V := by
    have := (i32_inj (by omega) (by omega) (by omega) (by omega)).mp (a5.symm.trans hV)
    omega
  subst hVV
  obtain ⟨y1, y2, y3, y4, y5, y6⟩ := cVar_at (σ := σ) (A := A) (V := V') (x := x) (k := k)
  obtain ⟨z1, z2, z3, z4⟩ := mVar_at (τ := τ) (A := A) (V := V')
  have hc : ∀ j i, ¬ (j = 62 ∧ i = 3) → ¬ (j = 15 ∧ i = 19) → ¬ (30 ≤ j ∧ j ≤ 33 ∧ i = V') → rd (cVar σ A V' x k) j i = rd σ j i := fun j i h1 h2 h3 => cVar_oth h1 h2 h3
  have hr : ∀ j i, ¬ (j = 29 ∧ i = V') → rl (cVar σ A V' x k) j i = rl σ j i := fun j i h1 => by rw [cVar_rl, if_neg h1]
  have hrV : rl (cVar σ A V' x k) 29 V' = rl σ 12 A := by rw [cVar_rl, if_pos ⟨rfl, rfl⟩]
  have hmo : ∀ j i, ¬ (j = 123 ∧ (i = 36 ∨ i = 17)) → ¬ (145 ≤ j ∧ j ≤ 146 ∧ i = V') → rd (mVar τ A V') j i = rd τ j i := fun j i h1 h2 => mVar_oth h1 h2
  have h2 : (cVar σ A V' x k).2.2 = σ.2.2 := cVar_2
  generalize cVar σ A V' x k = σ' at *
  generalize mVar τ A V' = τ' at *
  have hln : ∀ j, ln σ' j = ln σ j := fun j => by unfold ln; rw [h2]
  have hrm : rm σ' = rm σ := by unfold rm; rw [h2]
  have hx5 : ix (rd σ 15 19) = V' := by rw [a5, i32_ixn (by omega)]
  have hx6 : ix (rd σ' 15 19) = V' + 1 := by rw [y6, i32_ixn (by omega)]
  obtain ⟨l1, l2⟩ := a1.congr (σ' := σ') (τ' := τ') (fun j hj i => by have := inL3 hj; exact hc j i (by omega) (by omega) (by omega)) (fun i => hr _ _ (by omega)) (fun j hj i => by have := inL3 hj; exact hmo j i (by omega) (by omega))
  have hmem : ∀ v, v ∈ sc → v ≠ V' := fun v hv e => by have := a15.2.2.2.2.2.1 v hv; omega
  refine ⟨V' + 1, S, C, q, cp, l1, l2.trans a2, ⟨(hc 15 13 (by omega) (by omega) (by omega)).trans a3, (hmo 123 46 (by omega) (by omega)).trans a4⟩, ⟨y6, z3, by omega, by omega⟩, (hc 15 26 (by omega) (by omega) (by omega)).trans a9, ⟨(hmo 123 60 (by omega) (by omega)).trans a10, a11⟩, (hmo 123 5 (by omega) (by omega)).trans a12,
    a13.congr l2 (hc 62 7 (by omega) (by omega) (by omega)) (hc 15 38 (by omega) (by omega) (by omega)) (fun i => hc 44 i (by omega) (by omega) (by omega)) (fun i => hr _ _ (by omega)) (fun i => hr _ _ (by omega)) (fun i hi => hmo 123 i (by omega) (by omega)) (fun j hj i => by have := inL3 hj; exact hmo j i (by omega) (by omega)),
    fun v hv => ?_, ⟨?_, ?_, (hmo 123 40 (by omega) (by omega)).trans a15.2.2.1, a15.2.2.2.1, fun k hk => ?_, fun v hv => by have := a15.2.2.2.2.2.1 v hv; omega, fun u v hu hv e => a15.2.2.2.2.2.2.1 u v hu hv (by rw [hr 29 u (fun q => hmem u hu q.2), hr 29 v (fun q => hmem v hv q.2)] at e; exact e), (hmo 123 42 (by omega) (by omega)).trans a15.2.2.2.2.2.2.2⟩, fun p hp => ?_, ?_, b1.congr (fun j _ _ i => hc j i (by omega) (by omega) (by omega)) (hc 15 29 (by omega) (by omega) (by omega)) (hln 40), ?_, b3, b4, fun e he => ?_, fun v hv => ?_, b7, fun p hp hk => ?_, fun f hf => ?_⟩
  · by_cases e : v = V'
    · subst e
      exact ⟨A, hA, by rw [l2, a2]; exact hμ, y1, z2, by rw [hrV, hr 12 A (by omega)], by rw [z1, hmo 129 A (by omega) (by omega)]⟩
    · obtain ⟨k', c1, c2, c3, c4, c5, c6⟩ := a14 v (by omega)
      exact ⟨k', c1, by rw [l2]; exact c2, (hc 30 v (by omega) (by omega) (by omega)).trans c3, (hmo 146 v (by omega) (by omega)).trans c4, by rw [hr 29 v (by omega), hr 12 k' (by omega)]; exact c5, by rw [hmo 145 v (by omega) (by omega), hmo 129 k' (by omega) (by omega)]; exact c6⟩
  · rw [hc 62 5 (by omega) (by omega) (by omega)]
    exact a15.1.congr _ _ (fun v hv => ⟨hc 33 v (by omega) (by omega) (fun q => hmem v hv q.2.2), hc 32 v (by omega) (by omega) (fun q => hmem v hv q.2.2)⟩)
  · rw [hmo 123 43 (by omega) (by omega)]
    exact a15.2.1.congr (Nat.le_refl _) _ _ (fun s _ => ⟨hmo 149 s (by omega) (by omega), hmo 150 s (by omega) (by omega)⟩)
  · rw [hmo 148 k (by omega) (by omega), hmo 147 _ (by omega) (by omega)]
    exact a15.2.2.2.2.1 k hk
  · exact ((a16 p hp).mono (Nat.le_succ A)).stay (by omega) (fun j i _ _ _ _ _ _ => hc j i (by omega) (by omega) (by omega)) (fun j i _ _ _ => hc j i (by omega) (by omega) (by omega)) (fun e => by rw [hmo 159 p (by omega) (by omega), hc 24 p (by omega) (by omega) (by omega)]; exact e) (fun _ f _ _ _ => ⟨hc 35 f (by omega) (by omega) (by omega), hc 36 f (by omega) (by omega) (by omega)⟩)
      (fun l y hy => hy.congr (by omega) (fun v hv => ⟨hc 33 v (by omega) (by omega) (by omega), hc 32 v (by omega) (by omega) (by omega)⟩)) (fun v hv => hc 31 v (by omega) (by omega) (by omega)) (fun _ f _ _ => ⟨hc 44 f (by omega) (by omega) (by omega), hc 46 f (by omega) (by omega) (by omega)⟩) (by rw [hc 15 38 (by omega) (by omega) (by omega)]; exact Nat.le_refl _) (by omega)
      (fun l y hy => hy.congr (Nat.le_refl _) _ _ (fun s _ => ⟨hmo 149 s (by omega) (by omega), hmo 150 s (by omega) (by omega)⟩)) (fun j _ _ _ => hmo j p (by omega) (by omega)) (fun i _ => hmo 164 i (by omega) (by omega)) (by rw [hmo 123 60 (by omega) (by omega)]; exact Nat.le_refl _)
  · unfold roomC at a17 ⊢
    rw [hln, hln, hrm]
    exact a17
  · rw [hc 62 6 (by omega) (by omega) (by omega)]; exact b2.congr _ _ (fun e _ => hc 34 e.1 (by omega) (by omega) (by omega))
  · obtain ⟨c1, c2, c3, c4⟩ := b5 e he
    exact ⟨c1, c2, c3, by rw [c4, capW.congr _ (fun i _ => ⟨hc 16 i (by omega) (by omega) (by omega), hc 27 i (by omega) (by omega) (by omega)⟩)]⟩
  · rw [hc 31 v (by omega) (by omega) (fun q => hmem v hv q.2.2)]; exact b6 v hv
  · rw [hc 16 p (by omega) (by omega) (by omega)] at hk
    obtain ⟨f, s, l, c1, c2, c3, c4, c5, c6, c7⟩ := b8 p hp hk
    obtain ⟨κ, s', kids, d1, d2, d3, d4, d5, d6, d7, d8, d9, d10, ⟨l', d11, _⟩, _⟩ := a16 p hp
    have hll : l = l' := chC.uni _ _ _ c6 d11.1
    subst hll
    exact ⟨f, s, l, (hc 27 p (by omega) (by omega) (by omega)).trans c1, c2, c3, (hc 26 p (by omega) (by omega) (by omega)).trans c4, c5, by rw [hc 28 p (by omega) (by omega) (by omega)]; exact c6.congr _ _ (fun v hv => ⟨hc 33 v (by omega) (by omega) (fun q => by have := d11.2 v hv; omega), hc 32 v (by omega) (by omega) (fun q => by have := d11.2 v hv; omega)⟩), by rw [c7, capW.congr _ (fun i _ => ⟨hc 16 i (by omega) (by omega) (by omega), hc 27 i (by omega) (by omega) (by omega)⟩)]⟩
  · rcases b9 f hf with e | ⟨p, c1, c2, c3, c4⟩
    · exact Or.inl e
    · exact Or.inr ⟨p, c1, (hc 16 p (by omega) (by omega) (by omega)).trans c2, (hc 27 p (by omega) (by omega) (by omega)).trans c3, (hc 35 f (by omega) (by omega) (by omega)).trans c4⟩
end NEWV
