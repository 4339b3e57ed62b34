/-! every straight instruction of the named machine is one of the pure machine -/
theorem rel_arr {σ : tvS} {h : pvH} (hR : tvRel σ h) {k : Nat} (hk : k < 239) : rh σ k < h.2.1 ∧ ∃ f, h.1 (rh σ k) = (tagN k, le σ k, f) ∧ (tagN k ≠ 4 → ∀ i, i < le σ k → f i = tvC σ k i) := by
  obtain ⟨h1, h2, h3⟩ := hR
  obtain ⟨q1, q2, q3⟩ := h2 k hk
  exact ⟨by rw [h1]; exact q1, q3⟩
theorem mv_ref {ρ : Nat → Nat} {k : Nat} (hk : k < 239) : mv ρ (.ref k) = .ref (ρ k) := by
  show Value.ref (if k < 239 then ρ k else k - 239) = _
  rw [if_pos hk]
theorem in_lt {i : Int32} {n : Nat} (h : pv_in i n = true) : ix i < n := Nat.not_le.mp fun q => pv_inN h (Or.inr q)
theorem lenN_lt {k : Nat} (h : lenN k ≠ 0) : k < 239 := by
  apply Classical.byContradiction
  intro hn
  apply h
  unfold lenN
  have hb : ∀ m, m ≤ 239 → Nat.blt k m = false := fun m hm => by
    cases e : Nat.blt k m with
    | false => rfl
    | true => exact absurd (Nat.blt_eq.mp e) (by omega)
  simp [hb]
theorem grw_arr : ∀ k, k < 239 → (grw k = false ∨ tagN k < 10) := by decide +kernel
theorem le_obj {σ : tvS} {k : Nat} (hk : k < 239) (h : 10 ≤ tagN k) : le σ k = lenN k := by
  unfold le
  rw [(grw_arr k hk).resolve_right (by omega)]
  rfl
theorem fit_int (x : Int32) : pv_fit .int (.int x) = true := by simp [pv_fit, narrow, fits]
theorem fit_bool {x : Int32} (h : b01 x = true) : pv_fit .boolean (.int x) = true := by
  unfold b01 at h
  rw [Bool.or_eq_true] at h
  rcases h with h | h
  · rw [of_decide_eq_true h]; decide
  · rw [of_decide_eq_true h]; decide
theorem kd_int {t : FieldType} (h : tv_kd t = 0) : t = .int := by cases t <;> first | rfl | cases h
theorem kd_bool {t : FieldType} (h : tv_kd t = 1) : t = .boolean := by cases t <;> first | rfl | cases h
section OPS
variable {L : Nat} {xs : Nat → Int32} {M pc len r1 r2 r3 : Nat} {ls : tvL} {st : List Value} {σ : tvS} {h : pvH} {pls : pvL} {ls' : tvL} {st' : List Value} {σ' : tvS}
def opGoal (L : Nat) (xs : Nat → Int32) (M pc n : Nat) (pls : pvL) (st : List Value) (σ : tvS) (h : pvH) (ls' : tvL) (st' : List Value) (σ' : tvS) : Prop :=
  ∃ pls' h', pv_step (PP L xs) M pc pls (st.map (mv (rh σ))) h = some (.inl (pc + n, pls', st'.map (mv (rh σ')), h')) ∧ tvRel σ' h' ∧ tvLs (rh σ') ls' pls' ∧ ls'.length = (miP M).2.2.1
set_option maxHeartbeats 8000000 in
theorem tv_op_sim {i : Instr} (hi : insP M pc = some (i, len, r1, r2, r3)) (hR : tvRel σ h) (hl : tvLs (rh σ) ls pls) (hlen : ls.length = (miP M).2.2.1) (ho : tv_op L xs i r1 r2 r3 ls st σ = some (true, ls', st', σ')) : opGoal L xs M pc ((pv_len i).getD 0) pls st σ h ls' st' σ' := by
  have hi' : pv_ins (PP L xs) M pc = some (i, len, r1, r2, r3) := hi
  cases i
  case iadd | isub | imul | iand | ior | ladd | lsub | lmul | land | lor | lneg | lshl | lshr | lushr | lcmp | i2l | i2b | i2c | l2i =>
    simp only [tv_op] at ho
    split at ho
    · cases ho
      exact ⟨pls, h, by unfold pv_step; rw [hi']; rfl, hR, hl, hlen⟩
    · cases ho
  case iconst | bipush | sipush | lconst | ldc2_w | aconst_null =>
    simp only [tv_op] at ho
    cases ho
    exact ⟨pls, h, by unfold pv_step; rw [hi']; rfl, hR, hl, hlen⟩
  case idiv | irem | ldiv | lrem =>
    simp only [tv_op] at ho
    split at ho
    · rename_i y x r
      have hy : ¬ y = 0 := by
        have := congrArg Prod.fst (Option.some.inj ho)
        simpa using this
      have ho2 := congrArg Prod.snd (Option.some.inj ho)
      cases ho2
      refine ⟨pls, h, ?_, hR, hl, hlen⟩
      unfold pv_step
      rw [hi']
      show pv_nx _ _ _ (Option.map _ (if y = 0 then none else _)) = _
      rw [if_neg hy]
      rfl
    · cases ho
  case ldc | ldc_w =>
    simp only [tv_op] at ho
    cases hb : Nat.beq r3 0 with
    | true =>
      rw [hb] at ho
      cases ho
      have e : r3 = 0 := Nat.eq_of_beq_eq_true hb
      refine ⟨pls, h, ?_, hR, hl, hlen⟩
      unfold pv_step
      rw [hi']
      show (if r3 = 0 then _ else _) = _
      rw [if_pos e]
      rfl
    | false =>
      rw [hb] at ho
      cases ho
      have e : ¬ r3 = 0 := fun q => by rw [q] at hb; cases hb
      refine ⟨pls, h, ?_, hR, hl, hlen⟩
      unfold pv_step
      rw [hi']
      show (if r3 = 0 then _ else _) = _
      rw [if_neg e]
      rfl
  case aload_n k | aload k =>
    simp only [tv_op] at ho
    cases hb : pv_isR (lg ls k) with
    | false => rw [hb] at ho; cases ho
    | true =>
      rw [hb] at ho
      cases ho
      have hn : ndb (lg ls k) := fun x e => by rw [e] at hb; cases hb
      refine ⟨pls, h, ?_, hR, hl, hlen⟩
      unfold pv_step
      rw [hi']
      show pv_nx _ _ _ ((pv_get pls k).bind _) = _
      rw [hl.get hn]
      show pv_nx _ _ _ (if pv_isR (mv (rh σ) (lg ls k)) = true then _ else _) = _
      rw [mv_isR, hb]
      rfl
  case iload_n k | iload k =>
    simp only [tv_op, vI] at ho
    split at ho
    · rename_i x hx
      cases ho
      have hn : ndb (lg ls k) := fun y e => by rw [e] at hx; cases hx
      refine ⟨pls, h, ?_, hR, hl, hlen⟩
      unfold pv_step
      rw [hi']
      show pv_nx _ _ _ ((pv_get pls k).bind _) = _
      rw [hl.get hn, hx]
      rfl
    · cases ho
  case lload_n k | lload k =>
    simp only [tv_op, vL] at ho
    split at ho
    · rename_i x hx
      cases ho
      have hn : ndb (lg ls k) := fun y e => by rw [e] at hx; cases hx
      refine ⟨pls, h, ?_, hR, hl, hlen⟩
      unfold pv_step
      rw [hi']
      show pv_nx _ _ _ ((pv_get pls k).bind _) = _
      rw [hl.get hn, hx]
      rfl
    · cases ho
  case istore_n k | istore k =>
    simp only [tv_op] at ho
    split at ho
    · cases hb : Nat.blt k ls.length with
      | false => rw [hb] at ho; cases ho
      | true =>
        rw [hb] at ho
        cases ho
        have hk : k < (miP M).2.2.1 := hlen ▸ Nat.blt_eq.mp hb
        refine ⟨_, h, ?_, hR, hl.set1 k _, (ls1_len ls k _).trans hlen⟩
        unfold pv_step
        rw [hi']
        show (if k < (miP M).2.2.1 then _ else _) = _
        rw [if_pos hk]
        rfl
    · cases ho
  case lstore_n k | lstore k =>
    simp only [tv_op] at ho
    split at ho
    · cases hb : Nat.blt (k + 1) ls.length with
      | false => rw [hb] at ho; cases ho
      | true =>
        rw [hb] at ho
        cases ho
        have hk' : k + 1 < ls.length := Nat.blt_eq.mp hb
        have hk : k + 1 < (miP M).2.2.1 := hlen ▸ hk'
        refine ⟨_, h, ?_, hR, hl.set2 k hk' _, (ls2_len ls k _).trans hlen⟩
        unfold pv_step
        rw [hi']
        show (if k + 1 < (miP M).2.2.1 then _ else _) = _
        rw [if_pos hk]
        rfl
    · cases ho
  case astore_n k | astore k =>
    simp only [tv_op] at ho
    split at ho
    · rename_i v r
      cases hb : (pv_isR v && Nat.blt k ls.length) with
      | false => rw [hb] at ho; cases ho
      | true =>
        rw [hb] at ho
        cases ho
        rw [Bool.and_eq_true] at hb
        have hk : k < (miP M).2.2.1 := hlen ▸ Nat.blt_eq.mp hb.2
        refine ⟨_, h, ?_, hR, hl.set1 k v, (ls1_len ls k _).trans hlen⟩
        unfold pv_step
        rw [hi']
        show (if k < (miP M).2.2.1 ∧ pv_isR (mv (rh σ) v) = true then _ else _) = _
        rw [if_pos ⟨hk, by rw [mv_isR]; exact hb.1⟩]
        rfl
    · cases ho
  case iinc k n =>
    simp only [tv_op, vI] at ho
    split at ho
    · rename_i x hx
      cases hb : Nat.blt k ls.length with
      | false => rw [hb] at ho; cases ho
      | true =>
        rw [hb] at ho
        cases ho
        have hn : ndb (lg ls k) := fun y e => by rw [e] at hx; cases hx
        have hk : k < (miP M).2.2.1 := hlen ▸ Nat.blt_eq.mp hb
        refine ⟨_, h, ?_, hR, hl.set1 k _, (ls1_len ls k _).trans hlen⟩
        unfold pv_step
        rw [hi']
        show (match pv_get pls k with | some (.int x) => (if k < (miP M).2.2.1 then some _ else none) | _ => none) = _
        rw [hl.get hn, hx]
        show (if k < (miP M).2.2.1 then _ else _) = _
        rw [if_pos hk]
        rfl
    · cases ho
  case dup =>
    simp only [tv_op] at ho
    split at ho
    · rename_i v r
      cases hb : Nat.beq v.category 1 with
      | false => rw [hb] at ho; cases ho
      | true =>
        rw [hb] at ho
        cases ho
        refine ⟨pls, h, ?_, hR, hl, hlen⟩
        unfold pv_step
        rw [hi']
        show (if (mv (rh σ) v).category = 1 then _ else _) = _
        rw [if_pos (by rw [mv_cat]; exact Nat.eq_of_beq_eq_true hb)]
        rfl
    · cases ho
  case pop =>
    simp only [tv_op] at ho
    split at ho
    · rename_i v r
      cases hb : Nat.beq v.category 1 with
      | false => rw [hb] at ho; cases ho
      | true =>
        rw [hb] at ho
        cases ho
        refine ⟨pls, h, ?_, hR, hl, hlen⟩
        unfold pv_step
        rw [hi']
        show (if (mv (rh σ) v).category = 1 then _ else _) = _
        rw [if_pos (by rw [mv_cat]; exact Nat.eq_of_beq_eq_true hb)]
        rfl
    · cases ho
  case dup2 =>
    simp only [tv_op, pv_dup2] at ho
    split at ho
    · rename_i a b r
      by_cases hb : b.category = 1
      · rw [if_pos hb] at ho
        cases ho
        refine ⟨pls, h, ?_, hR, hl, hlen⟩
        unfold pv_step
        rw [hi']
        show pv_nx _ _ _ (if (mv (rh σ) b).category = 1 then _ else _) = _
        rw [if_pos (by rw [mv_cat]; exact hb)]
        rfl
      · rw [if_neg hb] at ho; cases ho
    · cases ho
      exact ⟨pls, h, by unfold pv_step; rw [hi']; rfl, hR, hl, hlen⟩
    · cases ho
  case getfield a =>
    simp only [tv_op] at ho
    split at ho
    · rename_i k r
      unfold tv_fld at ho
      cases hb : (Nat.beq (tagN k) (10 + r1) && Nat.blt r2 (lenN k)) with
      | false => rw [hb] at ho; cases ho
      | true =>
        rw [hb] at ho
        rw [Bool.and_eq_true] at hb
        have ht : tagN k = 10 + r1 := Nat.eq_of_beq_eq_true hb.1
        have hf : r2 < lenN k := Nat.blt_eq.mp hb.2
        have hk : k < 239 := lenN_lt (by omega)
        obtain ⟨q1, f, q2, q3⟩ := rel_arr hR hk
        have hle : le σ k = lenN k := le_obj hk (by omega)
        have hv := q3 (by omega) r2 (by omega)
        have hstep : ∀ v, f r2 = mv (rh σ) v → pv_step (PP L xs) M pc pls ((Value.ref k :: r).map (mv (rh σ))) h = some (.inl (pc + 3, pls, (v :: r).map (mv (rh σ)), h)) := by
          intro v ev
          unfold pv_step
          rw [hi']
          show pv_nx _ _ _ (pv_fld (PP L xs) (mv (rh σ) (.ref k) :: r.map (mv (rh σ))) h r1 r2) = _
          rw [mv_ref hk]
          show pv_nx _ _ _ (if (h.1 (rh σ k)).1 = 10 + r1 ∧ rh σ k < h.2.1 ∧ r2 < (h.1 (rh σ k)).2.1 then some ((h.1 (rh σ k)).2.2 r2 :: r.map (mv (rh σ))) else none) = _
          rw [q2]
          rw [if_pos ⟨ht, q1, by show r2 < le σ k; omega⟩]
          show some (Sum.inl (pc + 3, pls, f r2 :: r.map (mv (rh σ)), h)) = _
          rw [ev]
          rfl
        unfold tvC at hv
        rw [if_neg (by omega), if_neg (by omega), show tagN k - 10 = r1 by omega] at hv
        by_cases hkd : tv_kd (ftP r1 r2) < 2
        · have e1 : Nat.blt (tv_kd (ftP r1 r2)) 2 = true := Nat.blt_eq.mpr hkd
          rw [e1] at ho
          cases ho
          rw [if_pos hkd] at hv
          exact ⟨pls, h, hstep _ hv, hR, hl, hlen⟩
        · have e1 : Nat.blt (tv_kd (ftP r1 r2)) 2 = false := by
            cases e : Nat.blt (tv_kd (ftP r1 r2)) 2 with
            | false => rfl
            | true => exact absurd (Nat.blt_eq.mp e) hkd
          rw [e1] at ho
          rw [if_neg hkd] at hv
          cases hc : Nat.blt (refN k r2) 239 with
          | false => rw [hc] at ho; cases ho
          | true =>
            rw [hc] at ho
            cases ho
            exact ⟨pls, h, hstep _ (by rw [hv, mv_ref (Nat.blt_eq.mp hc)]), hR, hl, hlen⟩
    · cases ho
  case iaload =>
    simp only [tv_op] at ho
    split at ho
    · rename_i i k r
      cases hb : Nat.beq (tagN k) 0 with
      | false => rw [hb] at ho; cases ho
      | true =>
        rw [hb] at ho
        have hg : pv_in i (le σ k) = true := congrArg Prod.fst (Option.some.inj ho)
        have ho2 := congrArg Prod.snd (Option.some.inj ho)
        cases ho2
        have ht : tagN k = 0 := Nat.eq_of_beq_eq_true hb
        have hk : k < 239 := tagN_lt (by rw [ht]; decide)
        obtain ⟨q1, f, q2, q3⟩ := rel_arr hR hk
        have hv := q3 (by rw [ht]; decide) (ix i) (in_lt hg)
        unfold tvC at hv
        rw [if_neg (by rw [ht]; decide), if_pos (by rw [ht]; decide)] at hv
        refine ⟨pls, h, ?_, hR, hl, hlen⟩
        unfold pv_step
        rw [hi']
        show pv_nx _ _ _ (pv_ld (PP L xs) 0 (.int i :: mv (rh σ) (.ref k) :: r.map (mv (rh σ))) h) = _
        rw [mv_ref hk]
        show pv_nx _ _ _ (if (h.1 (rh σ k)).1 = 0 ∧ rh σ k < h.2.1 ∧ pv_in i (h.1 (rh σ k)).2.1 = true then some ((h.1 (rh σ k)).2.2 i.toNatClampNeg :: r.map (mv (rh σ))) else none) = _
        rw [if_pos ⟨by rw [q2]; exact ht, q1, by rw [q2]; exact hg⟩, q2]
        show some (Sum.inl (pc + 1, pls, f (ix i) :: r.map (mv (rh σ)), h)) = _
        rw [hv]
        rfl
    · rename_i i j r
      cases hb : Nat.beq j 0 with
      | false => rw [hb] at ho; cases ho
      | true =>
        rw [hb] at ho
        have hj : j = 0 := Nat.eq_of_beq_eq_true hb
        subst hj
        have hg : pv_in i L = true := congrArg Prod.fst (Option.some.inj ho)
        have ho2 := congrArg Prod.snd (Option.some.inj ho)
        cases ho2
        refine ⟨pls, h, ?_, hR, hl, hlen⟩
        unfold pv_step
        rw [hi']
        show pv_nx _ _ _ (if (0 : Nat) = 0 ∧ pv_in i L = true then _ else none) = _
        rw [if_pos ⟨rfl, hg⟩]
        rfl
    · cases ho
  case laload =>
    simp only [tv_op] at ho
    split at ho
    · rename_i i k r
      cases hb : Nat.beq (tagN k) 2 with
      | false => rw [hb] at ho; cases ho
      | true =>
        rw [hb] at ho
        have hg : pv_in i (le σ k) = true := congrArg Prod.fst (Option.some.inj ho)
        have ho2 := congrArg Prod.snd (Option.some.inj ho)
        cases ho2
        have ht : tagN k = 2 := Nat.eq_of_beq_eq_true hb
        have hk : k < 239 := tagN_lt (by rw [ht]; decide)
        obtain ⟨q1, f, q2, q3⟩ := rel_arr hR hk
        have hv := q3 (by rw [ht]; decide) (ix i) (in_lt hg)
        unfold tvC at hv
        rw [if_pos ht] at hv
        refine ⟨pls, h, ?_, hR, hl, hlen⟩
        unfold pv_step
        rw [hi']
        show pv_nx _ _ _ (pv_ldo 2 (.int i :: mv (rh σ) (.ref k) :: r.map (mv (rh σ))) h) = _
        rw [mv_ref hk]
        show pv_nx _ _ _ (if (h.1 (rh σ k)).1 = 2 ∧ rh σ k < h.2.1 ∧ pv_in i (h.1 (rh σ k)).2.1 = true then some ((h.1 (rh σ k)).2.2 i.toNatClampNeg :: r.map (mv (rh σ))) else none) = _
        rw [if_pos ⟨by rw [q2]; exact ht, q1, by rw [q2]; exact hg⟩, q2]
        show some (Sum.inl (pc + 1, pls, f (ix i) :: r.map (mv (rh σ)), h)) = _
        rw [hv]
        rfl
    · cases ho
  case baload =>
    simp only [tv_op] at ho
    split at ho
    · rename_i i k r
      cases hb : Nat.beq (tagN k) (cond (Nat.beq r3 0) 1 3) with
      | false => rw [hb] at ho; cases ho
      | true =>
        rw [hb] at ho
        have hg : pv_in i (le σ k) = true := congrArg Prod.fst (Option.some.inj ho)
        have ho2 := congrArg Prod.snd (Option.some.inj ho)
        cases ho2
        have ht := Nat.eq_of_beq_eq_true hb
        have hk : k < 239 := tagN_lt (by rw [ht]; cases Nat.beq r3 0 <;> decide)
        obtain ⟨q1, f, q2, q3⟩ := rel_arr hR hk
        have hv := q3 (by rw [ht]; cases Nat.beq r3 0 <;> decide) (ix i) (in_lt hg)
        unfold tvC at hv
        rw [if_neg (by rw [ht]; cases Nat.beq r3 0 <;> decide), if_pos (by rw [ht]; cases Nat.beq r3 0 <;> decide)] at hv
        refine ⟨pls, h, ?_, hR, hl, hlen⟩
        unfold pv_step
        rw [hi']
        show pv_nx _ _ _ (if r3 = 0 then pv_ld (PP L xs) 1 (.int i :: mv (rh σ) (.ref k) :: r.map (mv (rh σ))) h else pv_ldo 3 (.int i :: mv (rh σ) (.ref k) :: r.map (mv (rh σ))) h) = _
        rw [mv_ref hk]
        by_cases e3 : r3 = 0
        · subst e3
          rw [if_pos rfl]
          show pv_nx _ _ _ (if (h.1 (rh σ k)).1 = 1 ∧ rh σ k < h.2.1 ∧ pv_in i (h.1 (rh σ k)).2.1 = true then some ((h.1 (rh σ k)).2.2 i.toNatClampNeg :: r.map (mv (rh σ))) else none) = _
          rw [if_pos ⟨by rw [q2]; exact ht, q1, by rw [q2]; exact hg⟩, q2]
          show some (Sum.inl (pc + 1, pls, f (ix i) :: r.map (mv (rh σ)), h)) = _
          rw [hv]
          rfl
        · rw [if_neg e3]
          have e4 : Nat.beq r3 0 = false := by
            cases e : Nat.beq r3 0 with
            | false => rfl
            | true => exact absurd (Nat.eq_of_beq_eq_true e) e3
          rw [e4] at ht
          show pv_nx _ _ _ (if (h.1 (rh σ k)).1 = 3 ∧ rh σ k < h.2.1 ∧ pv_in i (h.1 (rh σ k)).2.1 = true then some ((h.1 (rh σ k)).2.2 i.toNatClampNeg :: r.map (mv (rh σ))) else none) = _
          rw [if_pos ⟨by rw [q2]; exact ht, q1, by rw [q2]; exact hg⟩, q2]
          show some (Sum.inl (pc + 1, pls, f (ix i) :: r.map (mv (rh σ)), h)) = _
          rw [hv]
          rfl
    · cases ho
  case iastore =>
    simp only [tv_op] at ho
    split at ho
    · rename_i x i k r
      cases hb : Nat.beq (tagN k) 0 with
      | false => rw [hb] at ho; cases ho
      | true =>
        rw [hb] at ho
        have hg : pv_in i (le σ k) = true := congrArg Prod.fst (Option.some.inj ho)
        have ho2 := congrArg Prod.snd (Option.some.inj ho)
        cases ho2
        have ht : tagN k = 0 := Nat.eq_of_beq_eq_true hb
        have hk : k < 239 := tagN_lt (by rw [ht]; decide)
        obtain ⟨q1, f, q2, q3⟩ := rel_arr hR hk
        refine ⟨pls, _, ?_, rel_wr hR hk q2 ⟨by rw [ht]; decide, Or.inl (by rw [ht]; decide)⟩ x, hl, hlen⟩
        unfold pv_step
        rw [hi']
        show pv_stx _ _ (pv_st 0 (.int x :: .int i :: mv (rh σ) (.ref k) :: st'.map (mv (rh σ))) h _) = _
        rw [mv_ref hk]
        show pv_stx _ _ (if (h.1 (rh σ k)).1 = 0 ∧ rh σ k < h.2.1 ∧ pv_in i (h.1 (rh σ k)).2.1 = true then _ else none) = _
        rw [if_pos ⟨by rw [q2]; exact ht, q1, by rw [q2]; exact hg⟩, q2, ht]
        rfl
    · cases ho
  case lastore =>
    simp only [tv_op] at ho
    split at ho
    · rename_i x i k r
      cases hb : Nat.beq (tagN k) 2 with
      | false => rw [hb] at ho; cases ho
      | true =>
        rw [hb] at ho
        have hg : pv_in i (le σ k) = true := congrArg Prod.fst (Option.some.inj ho)
        have ho2 := congrArg Prod.snd (Option.some.inj ho)
        cases ho2
        have ht : tagN k = 2 := Nat.eq_of_beq_eq_true hb
        have hk : k < 239 := tagN_lt (by rw [ht]; decide)
        obtain ⟨q1, f, q2, q3⟩ := rel_arr hR hk
        refine ⟨pls, _, ?_, rel_wl hR hk q2 ht x, hl, hlen⟩
        unfold pv_step
        rw [hi']
        show pv_stx _ _ (pv_st 2 (.long x :: .int i :: mv (rh σ) (.ref k) :: st'.map (mv (rh σ))) h _) = _
        rw [mv_ref hk]
        show pv_stx _ _ (if (h.1 (rh σ k)).1 = 2 ∧ rh σ k < h.2.1 ∧ pv_in i (h.1 (rh σ k)).2.1 = true then _ else none) = _
        rw [if_pos ⟨by rw [q2]; exact ht, q1, by rw [q2]; exact hg⟩, q2, ht]
        rfl
    · cases ho
  case bastore =>
    simp only [tv_op] at ho
    split at ho
    · rename_i x i k r
      cases hb : Nat.beq (tagN k) (cond (Nat.beq r3 0) 1 3) with
      | false => rw [hb] at ho; cases ho
      | true =>
        rw [hb] at ho
        have hg : pv_in i (le σ k) = true := congrArg Prod.fst (Option.some.inj ho)
        have ho2 := congrArg Prod.snd (Option.some.inj ho)
        cases ho2
        have ht := Nat.eq_of_beq_eq_true hb
        have hk : k < 239 := tagN_lt (by rw [ht]; cases Nat.beq r3 0 <;> decide)
        obtain ⟨q1, f, q2, q3⟩ := rel_arr hR hk
        refine ⟨pls, _, ?_, rel_wr hR hk q2 ⟨by rw [ht]; cases Nat.beq r3 0 <;> decide, Or.inl (by rw [ht]; cases Nat.beq r3 0 <;> decide)⟩ _, hl, hlen⟩
        unfold pv_step
        rw [hi']
        show (if r3 = 0 then pv_stx _ _ (pv_st 1 (.int x :: .int i :: mv (rh σ) (.ref k) :: st'.map (mv (rh σ))) h _) else pv_stx _ _ (pv_st 3 (.int x :: .int i :: mv (rh σ) (.ref k) :: st'.map (mv (rh σ))) h _)) = _
        rw [mv_ref hk]
        by_cases e3 : r3 = 0
        · subst e3
          rw [if_pos rfl]
          have ht1 : tagN k = 1 := ht
          show pv_stx _ _ (if (h.1 (rh σ k)).1 = 1 ∧ rh σ k < h.2.1 ∧ pv_in i (h.1 (rh σ k)).2.1 = true then _ else none) = _
          rw [if_pos ⟨by rw [q2]; exact ht1, q1, by rw [q2]; exact hg⟩, q2, ht1]
          rfl
        · rw [if_neg e3]
          have e4 : Nat.beq r3 0 = false := by
            cases e : Nat.beq r3 0 with
            | false => rfl
            | true => exact absurd (Nat.eq_of_beq_eq_true e) e3
          rw [e4] at ht ⊢
          have ht1 : tagN k = 3 := ht
          show pv_stx _ _ (if (h.1 (rh σ k)).1 = 3 ∧ rh σ k < h.2.1 ∧ pv_in i (h.1 (rh σ k)).2.1 = true then _ else none) = _
          rw [if_pos ⟨by rw [q2]; exact ht1, q1, by rw [q2]; exact hg⟩, q2, ht1]
          rfl
    · cases ho
  case arraylength =>
    simp only [tv_op] at ho
    split at ho
    · rename_i k r
      cases hb : Nat.blt (tagN k) 5 with
      | false => rw [hb] at ho; cases ho
      | true =>
        rw [hb] at ho
        cases ho
        have ht : tagN k < 5 := Nat.blt_eq.mp hb
        have hk : k < 239 := tagN_lt (by omega)
        obtain ⟨q1, f, q2, q3⟩ := rel_arr hR hk
        refine ⟨pls, h, ?_, hR, hl, hlen⟩
        have e : ((Value.ref k :: r).map (mv (rh σ))) = .ref (rh σ k) :: r.map (mv (rh σ)) := by rw [List.map_cons, mv_ref hk]
        rw [e]
        unfold pv_step
        rw [hi']
        show (if (h.1 (rh σ k)).1 < 5 ∧ rh σ k < h.2.1 then _ else none) = _
        rw [if_pos ⟨by rw [q2]; exact ht, q1⟩, q2]
        rfl
    · rename_i j r
      cases hb : Nat.beq j 0 with
      | false => rw [hb] at ho; cases ho
      | true =>
        rw [hb] at ho
        have hj : j = 0 := Nat.eq_of_beq_eq_true hb
        subst hj
        cases ho
        refine ⟨pls, h, ?_, hR, hl, hlen⟩
        unfold pv_step
        rw [hi']
        rfl
    · cases ho
  case putfield a =>
    simp only [tv_op] at ho
    split at ho
    · rename_i x k r
      unfold tv_pfl at ho
      cases hb : (Nat.beq (tagN k) (10 + r1) && Nat.blt r2 (lenN k) && !(finP r1 r2)) with
      | false => rw [hb] at ho; cases ho
      | true =>
        rw [hb] at ho
        simp only [Bool.and_eq_true, Bool.not_eq_true'] at hb
        have ht : tagN k = 10 + r1 := Nat.eq_of_beq_eq_true hb.1.1
        have hf : r2 < lenN k := Nat.blt_eq.mp hb.1.2
        have hk : k < 239 := lenN_lt (by omega)
        obtain ⟨q1, f, q2, q3⟩ := rel_arr hR hk
        have hle : le σ k = lenN k := le_obj hk (by omega)
        have key : tv_kd (ftP r1 r2) < 2 → pv_fit (ftP r1 r2) (.int x) = true → ls' = ls → st' = r → σ' = wr σ k r2 x → opGoal L xs M pc 3 pls (.int x :: .ref k :: r) σ h ls' st' σ' := by
          rintro h2 hfit rfl rfl rfl
          refine ⟨pls, _, ?_, rel_wr hR hk q2 ⟨by omega, Or.inr (by rw [show tagN k - 10 = r1 by omega]; exact h2)⟩ x, hl, hlen⟩
          unfold pv_step
          rw [hi']
          show pv_stx _ _ (pv_pfld (PP L xs) M (.int x :: mv (rh σ) (.ref k) :: st'.map (mv (rh σ))) h r1 r2) = _
          rw [mv_ref hk]
          show pv_stx _ _ (if ((h.1 (rh σ k)).1 = 10 + r1 ∧ rh σ k < h.2.1 ∧ r2 < (h.1 (rh σ k)).2.1) ∧ (pv_fit (ftP r1 r2) (.int x) = true ∧ (finP r1 r2 = false ∨ (miP M).1 = true)) then _ else none) = _
          rw [if_pos ⟨⟨by rw [q2]; exact ht, q1, by rw [q2]; show r2 < le σ k; omega⟩, hfit, Or.inl hb.2⟩, q2, ← ht]
          rfl
        cases h0 : Nat.beq (tv_kd (ftP r1 r2)) 0 with
        | true =>
          rw [h0] at ho
          have e0 := Nat.eq_of_beq_eq_true h0
          cases ho
          exact key (by omega) (by rw [kd_int e0]; exact fit_int x) rfl rfl rfl
        | false =>
          rw [h0] at ho
          cases h1 : Nat.beq (tv_kd (ftP r1 r2)) 1 with
          | false => rw [h1] at ho; cases ho
          | true =>
            rw [h1] at ho
            have e1 := Nat.eq_of_beq_eq_true h1
            have hg : b01 x = true := congrArg Prod.fst (Option.some.inj ho)
            have ho2 := congrArg Prod.snd (Option.some.inj ho)
            cases ho2
            exact key (by omega) (by rw [kd_bool e1]; exact fit_bool hg) rfl rfl rfl
    · cases ho
  all_goals (simp only [tv_op] at ho; cases ho)
end OPS
