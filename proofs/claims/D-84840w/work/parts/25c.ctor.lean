/-! THE START STATE -/
def packL : List Int64 := [6714734, 1835100526, 26222, 26982, 1952998766, 1701606245, 7103860, 26990, 1667330917, 28518, 7235948, 6714228, 7564900]
def rd0 (k i : Nat) : Int32 := cond (Nat.beq k 103) (cond (Nat.beq i 4) 40 (cond (Nat.beq i 5) 32 0)) (cond (Nat.beq k 106) (cond (Nat.blt i 39) (Int32.ofNat (i + 1)) (cond (Nat.beq i 39) (Int32.ofInt (-1)) 0)) (cond (Nat.beq k 123) (cond (Nat.beq i 119) 40 (cond (Nat.beq i 120) 32 0)) 0))
def rl0 (k i : Nat) : Int64 := cond (Nat.beq k 8) (packL.getD i 0) 0
def σ0 : tvS := (rd0, rl0, lenN, fun k => k, 239, 147880 - 239, sN 239)
def vEqI (v : Value) (x : Int32) : Bool := match v with | .int y => decide (y = x) | _ => false
def vEqL (v : Value) (x : Int64) : Bool := match v with | .long y => decide (y = x) | _ => false
def vEqR (v : Value) (x : Nat) : Bool := match v with | .ref y => Nat.beq y x | _ => false
theorem vEqI_ok {v : Value} {x : Int32} (h : vEqI v x = true) : v = .int x := by
  cases v <;> first | cases h; done | (rw [of_decide_eq_true h])
theorem vEqL_ok {v : Value} {x : Int64} (h : vEqL v x = true) : v = .long x := by
  cases v <;> first | cases h; done | (rw [of_decide_eq_true h])
theorem vEqR_ok {v : Value} {x : Nat} (h : vEqR v x = true) : v = .ref x := by
  cases v <;> first | cases h; done | (rw [Nat.eq_of_beq_eq_true h])
/-- is a cell as the start state says -/
def relK (C : List cD) (k : Nat) : Bool :=
  cond (Nat.beq (tagN k) 4) true (cond (Nat.beq (tagN k) 2) (cond (Nat.beq k 8) ((List.range 13).all fun i => vEqL (cdV (cL C k) i) (rl0 k i)) (Nat.beq (cL C k).1 1 && (cL C k).2.isEmpty))
   (cond (Nat.blt (tagN k) 4) (cond (Nat.beq k 106) ((List.range 400).all fun i => vEqI (cdV (cL C k) i) (rd0 k i)) (Nat.beq (cL C k).1 0 && (cL C k).2.isEmpty))
    ((List.range (lenN k)).all fun i => cond (Nat.blt (tv_kd (ftP (tagN k - 10) i)) 2) (vEqI (cdV (cL C k) i) (rd0 k i)) (vEqR (cdV (cL C k) i) (refN k i)))))
def relB (C : List cD) : Bool := Nat.beq C.length 239 && (List.range 239).all fun k => relK C k
theorem rel0 {C : List cD} {h : pvH} (hI : cInv C h) (hB : relB C = true) : tvRel σ0 h := by
  unfold relB at hB
  rw [Bool.and_eq_true] at hB
  have hn : C.length = 239 := Nat.eq_of_beq_eq_true hB.1
  have hall := List.all_eq_true.mp hB.2
  obtain ⟨h1, h2⟩ := hI
  refine ⟨by rw [h1, hn]; rfl, fun k hk => ⟨hk, fun _ => rfl, cdV (cL C k), ?_, fun h4 i hi => ?_⟩, fun j k _ _ e => e⟩
  · show h.1 k = (tagN k, le σ0 k, _)
    rw [h2 k (by omega)]
    have : le σ0 k = lenN k := by
      show cond (grw k) (lenN k) (lenN k) = lenN k
      cases grw k <;> rfl
    rw [this]
  · have hle : le σ0 k = lenN k := by
      show cond (grw k) (lenN k) (lenN k) = lenN k
      cases grw k <;> rfl
    rw [hle] at hi
    have hK := hall k (List.mem_range.mpr hk)
    unfold relK at hK
    rw [show Nat.beq (tagN k) 4 = false from by cases e : Nat.beq (tagN k) 4 with | false => rfl | true => exact absurd (Nat.eq_of_beq_eq_true e) h4] at hK
    show cdV (cL C k) i = if tagN k = 2 then .long (rl0 k i) else if tagN k < 4 then .int (rd0 k i) else if tv_kd (ftP (tagN k - 10) i) < 2 then .int (rd0 k i) else .ref (refN k i)
    have emp : ∀ c, (Nat.beq (cL C k).1 c && (cL C k).2.isEmpty) = true → cdV (cL C k) i = cdDef c i := by
      intro c hc
      rw [Bool.and_eq_true] at hc
      have e1 := Nat.eq_of_beq_eq_true hc.1
      have e2 := List.isEmpty_iff.mp hc.2
      unfold cdV
      rw [e1, e2]
      rfl
    by_cases a : tagN k = 2
    · rw [if_pos a]
      rw [show Nat.beq (tagN k) 2 = true from by rw [a]; rfl] at hK
      by_cases b : k = 8
      · subst b
        have hK : ((List.range 13).all fun i => vEqL (cdV (cL C 8) i) (rl0 8 i)) = true := hK
        exact vEqL_ok (List.all_eq_true.mp hK i (List.mem_range.mpr hi))
      · have e8 : Nat.beq k 8 = false := by cases e : Nat.beq k 8 with | false => rfl | true => exact absurd (Nat.eq_of_beq_eq_true e) b
        rw [e8] at hK
        rw [emp 1 hK]
        unfold rl0
        rw [e8]
        rfl
    · rw [if_neg a]
      rw [show Nat.beq (tagN k) 2 = false from by cases e : Nat.beq (tagN k) 2 with | false => rfl | true => exact absurd (Nat.eq_of_beq_eq_true e) a] at hK
      by_cases c : tagN k < 4
      · rw [if_pos c]
        rw [show Nat.blt (tagN k) 4 = true from Nat.blt_eq.mpr c] at hK
        by_cases b : k = 106
        · subst b
          have hK : ((List.range 400).all fun i => vEqI (cdV (cL C 106) i) (rd0 106 i)) = true := hK
          exact vEqI_ok (List.all_eq_true.mp hK i (List.mem_range.mpr hi))
        · have e8 : Nat.beq k 106 = false := by cases e : Nat.beq k 106 with | false => rfl | true => exact absurd (Nat.eq_of_beq_eq_true e) b
          rw [e8] at hK
          rw [emp 0 hK]
          unfold rd0
          have e3 : Nat.beq k 103 = false := by
            cases e : Nat.beq k 103 with
            | false => rfl
            | true => rw [Nat.eq_of_beq_eq_true e] at c; exact absurd c (by decide)
          have e4 : Nat.beq k 123 = false := by
            cases e : Nat.beq k 123 with
            | false => rfl
            | true => rw [Nat.eq_of_beq_eq_true e] at c; exact absurd c (by decide)
          rw [e3, e8, e4]
          rfl
      · rw [if_neg c]
        rw [show Nat.blt (tagN k) 4 = false from by cases e : Nat.blt (tagN k) 4 with | false => rfl | true => exact absurd (Nat.blt_eq.mp e) c] at hK
        have hi2 := List.all_eq_true.mp hK i (List.mem_range.mpr hi)
        by_cases e : tv_kd (ftP (tagN k - 10) i) < 2
        · rw [if_pos e]
          simp only [show Nat.blt (tv_kd (ftP (tagN k - 10) i)) 2 = true from Nat.blt_eq.mpr e, cond_true] at hi2
          exact vEqI_ok hi2
        · rw [if_neg e]
          simp only [show Nat.blt (tv_kd (ftP (tagN k - 10) i)) 2 = false from by cases e' : Nat.blt (tv_kd (ftP (tagN k - 10) i)) 2 with | false => rfl | true => exact absurd (Nat.blt_eq.mp e') e, cond_false] at hi2
          exact vEqR_ok hi2
def C1 : Option (List cD) := cx 3000 1499 8 0 (lv_args 0 [.ref 0]) [] [(11, [])]
def C2 : Option (List cD) := C1.bind fun C => cond (Nat.beq C.length 123) (cx 3000 1499 281 0 (lv_args 0 [.ref 123]) [] (C ++ [(25, [])])) none
set_option maxRecDepth 1000000 in
theorem C2_ok : (C2.any fun C => Nat.beq C.length 238 && relB (C ++ [(1, [])])) = true := by decide +kernel
section ST0
variable {L : Nat} {xs : Nat → Int32}
def h00 : pvH := (fun _ => (0, 0, fun _ => .null), 0, 147880, 8648370)
theorem start0 {r : tvO × tvS} (hr : rn L xs 1496 441 20 [.retAddr 0, .ref 0, .ref 123, .ref 238, jv, jv, jv] [] σ0 = some r) : ∃ n h', pv_exec (PP L xs) n 1500 441 0 (lv_args 0 [.retAddr 0]) [] h00 = some (mo r.1, h') := by
  have h0 : cInv [] h00 := ⟨rfl, fun k hk => absurd hk (Nat.not_lt_zero _)⟩
  have h1 := h0.new (d := (11, [])) (F := fun j => defaultValue (ftP 1 j)) (by decide) rfl
  have hC := C2_ok
  unfold C2 at hC
  cases e1 : C1 with
  | none => rw [e1] at hC; cases hC
  | some D1 =>
    rw [e1] at hC
    have hC : (Option.any (fun C => Nat.beq C.length 238 && relB (C ++ [(1, [])])) (cond (Nat.beq D1.length 123) (cx 3000 1499 281 0 (lv_args 0 [.ref 123]) [] (D1 ++ [(25, [])])) none)) = true := hC
    cases e2 : Nat.beq D1.length 123 with
    | false => rw [e2] at hC; cases hC
    | true =>
      rw [e2] at hC
      have l1 : D1.length = 123 := Nat.eq_of_beq_eq_true e2
      cases e3 : cx 3000 1499 281 0 (lv_args 0 [.ref 123]) [] (D1 ++ [(25, [])]) with
      | none => rw [e3] at hC; cases hC
      | some D2 =>
        rw [e3] at hC
        have hC : (Nat.beq D2.length 238 && relB (D2 ++ [(1, [])])) = true := hC
        rw [Bool.and_eq_true] at hC
        have l2 : D2.length = 238 := Nat.eq_of_beq_eq_true hC.1
        obtain ⟨h2, c1, i2⟩ := cx_sound (L := L) (xs := xs) 3000 _ _ _ _ _ _ _ _ e1 h1
        have i3 := i2.new (d := (25, [])) (F := fun j => defaultValue (ftP 15 j)) (by omega) rfl
        obtain ⟨h4, c2, i4⟩ := cx_sound (L := L) (xs := xs) 3000 _ _ _ _ _ _ _ _ e3 i3
        have i5 := i4.new (d := (1, [])) (F := fun _ => .long 0) (by omega) rfl
        have hR := rel0 i5 hC.2
        have a2 : h2.2 = (123, 147880 - 123, sN 123) := by rw [i2.1, l1]
        have a4 : h4.2 = (238, 147880 - 238, sN 238) := by rw [i4.1, l2]
        rw [l1] at c2
        rw [l2] at hR
        have hl : tvLs (rh σ0) [.retAddr 0, .ref 0, .ref 123, .ref 238, jv, jv, jv] (pv_set1 (pv_set1 (pv_set1 (lv_args 0 [.retAddr 0]) 1 (.ref 0)) 2 (.ref 123)) 3 (.ref 238)) := by
          intro i v hv hn
          match i with
          | 0 => cases hv; rfl
          | 1 => cases hv; rfl
          | 2 => cases hv; rfl
          | 3 => cases hv; rfl
          | 4 => cases hv; exact absurd rfl (hn 0)
          | 5 => cases hv; exact absurd rfl (hn 0)
          | 6 => cases hv; exact absurd rfl (hn 0)
          | i + 7 => cases hv
        obtain ⟨h', k1, k2⟩ := rn_sim hr hR hl rfl
        suffices hx : pvX (PP L xs) 1500 441 0 (lv_args 0 [.retAddr 0]) [] h00 (mo r.1, h') by
          obtain ⟨n, hn⟩ := hx
          exact ⟨n, h', hn⟩
        refine pvX.step (pc' := 3) (ls' := lv_args 0 [.retAddr 0]) (st' := [.ref 0]) (h' := pv_new h00 (tagN 0, lenN 0, fun j => defaultValue (ftP 1 j))) rfl ?_
        refine pvX.step (pc' := 4) (ls' := lv_args 0 [.retAddr 0]) (st' := [.ref 0, .ref 0]) (h' := pv_new h00 (tagN 0, lenN 0, fun j => defaultValue (ftP 1 j))) rfl ?_
        refine pvX.call (d := 1499) (M' := 8) (av := [.ref 0]) (rest := [.ref 0]) (pc' := 7) (h1 := pv_new h00 (tagN 0, lenN 0, fun j => defaultValue (ftP 1 j))) rfl c1 ?_
        refine pvX.step (pc' := 8) (ls' := pv_set1 (lv_args 0 [.retAddr 0]) 1 (.ref 0)) (st' := []) (h' := h2) rfl ?_
        refine pvX.step (pc' := 11) (ls' := pv_set1 (lv_args 0 [.retAddr 0]) 1 (.ref 0)) (st' := [.ref 123]) (h' := pv_new h2 (tagN 123, lenN 123, fun j => defaultValue (ftP 15 j))) ?_ ?_
        · have e : pv_step (PP L xs) 441 8 (pv_set1 (lv_args 0 [.retAddr 0]) 1 (.ref 0)) [] h2 = if 1 ≤ h2.2.2.1 ∧ nfP 15 ≤ h2.2.2.2 then some (.inl (11, pv_set1 (lv_args 0 [.retAddr 0]) 1 (.ref 0), .ref h2.2.1 :: [], pv_new h2 (10 + 15, nfP 15, fun j => defaultValue (ftP 15 j)))) else none := rfl
          rw [e, a2, if_pos (by decide +kernel)]
          rfl
        rw [l1] at i3
        refine pvX.step (pc' := 12) (ls' := pv_set1 (lv_args 0 [.retAddr 0]) 1 (.ref 0)) (st' := [.ref 123, .ref 123]) (h' := pv_new h2 (tagN 123, lenN 123, fun j => defaultValue (ftP 15 j))) rfl ?_
        refine pvX.call (d := 1499) (M' := 281) (av := [.ref 123]) (rest := [.ref 123]) (pc' := 15) (h1 := pv_new h2 (tagN 123, lenN 123, fun j => defaultValue (ftP 15 j))) rfl c2 ?_
        refine pvX.step (pc' := 16) (ls' := pv_set1 (pv_set1 (lv_args 0 [.retAddr 0]) 1 (.ref 0)) 2 (.ref 123)) (st' := []) (h' := h4) rfl ?_
        refine pvX.step (pc' := 17) (ls' := pv_set1 (pv_set1 (lv_args 0 [.retAddr 0]) 1 (.ref 0)) 2 (.ref 123)) (st' := [.int 1]) (h' := h4) rfl ?_
        refine pvX.step (pc' := 19) (ls' := pv_set1 (pv_set1 (lv_args 0 [.retAddr 0]) 1 (.ref 0)) 2 (.ref 123)) (st' := [.ref 238]) (h' := pv_new h4 (tagN 238, lenN 238, fun _ => .long 0)) ?_ ?_
        · have e : pv_step (PP L xs) 441 17 (pv_set1 (pv_set1 (lv_args 0 [.retAddr 0]) 1 (.ref 0)) 2 (.ref 123)) [.int 1] h4 = if 1 ≤ h4.2.2.1 ∧ 1 ≤ h4.2.2.2 then some (.inl (19, pv_set1 (pv_set1 (lv_args 0 [.retAddr 0]) 1 (.ref 0)) 2 (.ref 123), .ref h4.2.1 :: [], pv_new h4 (2, 1, fun _ => .long 0))) else none := rfl
          rw [e, a4, if_pos (by decide +kernel)]
          rfl
        refine pvX.step (pc' := 20) (ls' := pv_set1 (pv_set1 (pv_set1 (lv_args 0 [.retAddr 0]) 1 (.ref 0)) 2 (.ref 123)) 3 (.ref 238)) (st' := []) (h' := pv_new h4 (tagN 238, lenN 238, fun _ => .long 0)) rfl ?_
        exact k1
end ST0
