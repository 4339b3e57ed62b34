/-! FRAMES BY FIELDS: a set of methods, closed under calls, that writes to some names and to some fields -/
def frP (S : Nat → Bool) (W : Nat → Nat → Bool) (σ σ' : tvS) : Prop := frS S σ σ' ∧ ∀ k i, 10 ≤ tagN k → tagN k < 9000 → W (tagN k - 10) i = false → rd σ' k i = rd σ k i
/-- a row of a method of the set -/
def rowB (S : Nat → Bool) (W : Nat → Nat → Bool) (Ms : Nat → Bool) (q : pvI) : Bool := match q.1 with
  | .getfield _ => (List.range 239).all fun k => cond (S k && Nat.beq (tagN k) (10 + q.2.2.1)) (cond (Nat.blt (refN k q.2.2.2.1) 239) (S (refN k q.2.2.2.1)) true) true
  | .putfield _ => W q.2.2.1 q.2.2.2.1
  | .invokevirtual _ => Nat.beq q.2.2.1 431 || (Nat.beq q.2.2.1 433 || Ms q.2.2.1)
  | .invokestatic _ => Nat.beq q.2.2.1 440 || Ms q.2.2.1
  | _ => true
def rowsB (S : Nat → Bool) (W : Nat → Nat → Bool) (Ms : Nat → Bool) (l : List Nat) : Bool := l.all fun M => Ms M && (insOf M).all fun q => rowB S W Ms q.2
def clP (S : Nat → Bool) (W : Nat → Nat → Bool) (Ms : Nat → Bool) : Prop := ∀ M pc q, Ms M = true → insP M pc = some q → rowB S W Ms q = true
theorem clP_of {S : Nat → Bool} {W : Nat → Nat → Bool} {l : List Nat} (h : rowsB S W (inL l) l = true) : clP S W (inL l) := by
  intro M pc q hM hq
  have hin : M ∈ l := by
    clear h hq
    induction l with
    | nil => cases hM
    | cons a r ih =>
      have hM : (Nat.beq M a || inL r M) = true := hM
      rw [Bool.or_eq_true] at hM
      rcases hM with e | e
      · rw [Nat.eq_of_beq_eq_true e]; exact List.mem_cons_self
      · exact List.mem_cons_of_mem _ (ih e)
  have a := List.all_eq_true.mp h M hin
  rw [Bool.and_eq_true] at a
  unfold insP at hq
  cases hf : (insOf M).find? (fun q => q.1 == pc) with
  | none => rw [hf] at hq; cases hq
  | some w =>
    rw [hf] at hq
    have hq : some w.2 = some q := hq
    cases hq
    exact List.all_eq_true.mp a.2 w (List.mem_of_find?_eq_some hf)
section FRP
variable {S : Nat → Bool} {W : Nat → Nat → Bool} {Ms : Nat → Bool} {σ σ' σ'' : tvS} {ls : tvL} {st : List Value}
theorem frP.refl : frP S W σ σ := ⟨frS.refl, fun _ _ _ _ _ => rfl⟩
theorem frP.trans (h1 : frP S W σ σ') (h2 : frP S W σ' σ'') : frP S W σ σ'' := ⟨h1.1.trans h2.1, fun k i a b c => (h2.2 k i a b c).trans (h1.2 k i a b c)⟩
theorem frP_wr {k : Nat} (hk : S k = true) (i : Nat) (x : Int32) (h : 10 ≤ tagN k → W (tagN k - 10) i = true) : frP S W σ (wr σ k i x) := ⟨frS_wr hk i x, fun j i' a b c => by
  rw [rd_wr, if_neg (fun q => by rw [q.1] at a c; rw [q.2, h a] at c; cases c)]⟩
theorem frP_wl {k : Nat} (hk : S k = true) (i : Nat) (x : Int64) : frP S W σ (wl σ k i x) := ⟨frS_wl hk i x, fun _ _ _ _ _ => rfl⟩
theorem frP_gw {k : Nat} (hk : S k = true) (hg : grw k = true) (n : Nat) : frP S W σ (gw σ k n) := ⟨frS_gw hk n, fun j i a b c => by
  rw [rd_gw, if_neg (fun q => by rw [q, grw_tag k (grw_lt hg) hg] at a; omega)]⟩
set_option maxHeartbeats 8000000 in
theorem tv_op_frP {L : Nat} {xs : Nat → Int32} {i : Instr} {len r1 r2 r3 : Nat} (hB : rowB S W Ms (i, len, r1, r2, r3) = true) {ls' : tvL} {st' : List Value} (hl : okS S ls) (hs : okS S st) (ho : tv_op L xs i r1 r2 r3 ls st σ = some (true, ls', st', σ')) : okS S ls' ∧ okS S st' ∧ frP S W σ σ' := by
  cases i
  case iadd | isub | imul | iand | ior =>
    simp only [tv_op] at ho
    split at ho
    · cases ho
      exact ⟨hl, okS_cons.mpr ⟨okS_int _, (okS_cons.mp (okS_cons.mp hs).2).2⟩, frP.refl⟩
    · cases ho
  case ladd | lsub | lmul | land | lor | lshl | lshr | lushr =>
    simp only [tv_op] at ho
    split at ho
    · cases ho
      exact ⟨hl, okS_cons.mpr ⟨okS_long _, (okS_cons.mp (okS_cons.mp hs).2).2⟩, frP.refl⟩
    · cases ho
  case lcmp =>
    simp only [tv_op] at ho
    split at ho
    · cases ho
      exact ⟨hl, okS_cons.mpr ⟨okS_int _, (okS_cons.mp (okS_cons.mp hs).2).2⟩, frP.refl⟩
    · cases ho
  case lneg | i2l =>
    simp only [tv_op] at ho
    split at ho
    · cases ho
      exact ⟨hl, okS_cons.mpr ⟨okS_long _, (okS_cons.mp hs).2⟩, frP.refl⟩
    · cases ho
  case i2b | i2c | l2i =>
    simp only [tv_op] at ho
    split at ho
    · cases ho
      exact ⟨hl, okS_cons.mpr ⟨okS_int _, (okS_cons.mp hs).2⟩, frP.refl⟩
    · cases ho
  case iconst | bipush | sipush =>
    simp only [tv_op] at ho
    cases ho
    exact ⟨hl, okS_cons.mpr ⟨okS_int _, hs⟩, frP.refl⟩
  case lconst | ldc2_w =>
    simp only [tv_op] at ho
    cases ho
    exact ⟨hl, okS_cons.mpr ⟨okS_long _, hs⟩, frP.refl⟩
  case aconst_null =>
    simp only [tv_op] at ho
    cases ho
    exact ⟨hl, okS_cons.mpr ⟨okS_null, hs⟩, frP.refl⟩
  case idiv | irem =>
    simp only [tv_op] at ho
    split at ho
    · have ho2 := congrArg Prod.snd (Option.some.inj ho)
      cases ho2
      exact ⟨hl, okS_cons.mpr ⟨okS_int _, (okS_cons.mp (okS_cons.mp hs).2).2⟩, frP.refl⟩
    · cases ho
  case ldiv | lrem =>
    simp only [tv_op] at ho
    split at ho
    · have ho2 := congrArg Prod.snd (Option.some.inj ho)
      cases ho2
      exact ⟨hl, okS_cons.mpr ⟨okS_long _, (okS_cons.mp (okS_cons.mp hs).2).2⟩, frP.refl⟩
    · cases ho
  case ldc | ldc_w =>
    simp only [tv_op] at ho
    cases hb : Nat.beq r3 0 with
    | true =>
      rw [hb] at ho
      cases ho
      exact ⟨hl, okS_cons.mpr ⟨okS_int _, hs⟩, frP.refl⟩
    | false =>
      rw [hb] at ho
      cases ho
      exact ⟨hl, okS_cons.mpr ⟨okS_float _, hs⟩, frP.refl⟩
  case aload_n k | aload k =>
    simp only [tv_op] at ho
    obtain ⟨hb, ho⟩ := cond_some ho
    cases ho
    exact ⟨hl, okS_cons.mpr ⟨okS_lg hl hb, hs⟩, frP.refl⟩
  case iload_n k | iload k =>
    simp only [tv_op, vI] at ho
    split at ho
    · cases ho
      exact ⟨hl, okS_cons.mpr ⟨okS_int _, hs⟩, frP.refl⟩
    · cases ho
  case lload_n k | lload k =>
    simp only [tv_op, vL] at ho
    split at ho
    · cases ho
      exact ⟨hl, okS_cons.mpr ⟨okS_long _, hs⟩, frP.refl⟩
    · cases ho
  case istore_n k | istore k =>
    simp only [tv_op] at ho
    split at ho
    · obtain ⟨hb, ho⟩ := cond_some ho
      cases ho
      exact ⟨okS_ls1 _ _ _ hl (okS_int _), (okS_cons.mp hs).2, frP.refl⟩
    · cases ho
  case lstore_n k | lstore k =>
    simp only [tv_op] at ho
    split at ho
    · obtain ⟨hb, ho⟩ := cond_some ho
      cases ho
      exact ⟨okS_ls2 _ _ _ (Nat.blt_eq.mp hb) hl (okS_long _), (okS_cons.mp hs).2, frP.refl⟩
    · cases ho
  case astore_n k | astore k =>
    simp only [tv_op] at ho
    split at ho
    · obtain ⟨hb, ho⟩ := cond_some ho
      cases ho
      exact ⟨okS_ls1 _ _ _ hl (okS_cons.mp hs).1, (okS_cons.mp hs).2, frP.refl⟩
    · cases ho
  case iinc k n =>
    simp only [tv_op, vI] at ho
    split at ho
    · obtain ⟨hb, ho⟩ := cond_some ho
      cases ho
      exact ⟨okS_ls1 _ _ _ hl (okS_int _), hs, frP.refl⟩
    · cases ho
  case dup =>
    simp only [tv_op] at ho
    split at ho
    · obtain ⟨hb, ho⟩ := cond_some ho
      cases ho
      exact ⟨hl, okS_cons.mpr ⟨(okS_cons.mp hs).1, hs⟩, frP.refl⟩
    · cases ho
  case pop =>
    simp only [tv_op] at ho
    split at ho
    · obtain ⟨hb, ho⟩ := cond_some ho
      cases ho
      exact ⟨hl, (okS_cons.mp hs).2, frP.refl⟩
    · cases ho
  case dup2 =>
    simp only [tv_op, pv_dup2] at ho
    split at ho
    · rename_i a b r
      by_cases hb : b.category = 1
      · rw [if_pos hb] at ho
        cases ho
        refine ⟨hl, okS_cons.mpr ⟨okS_int _, okS_cons.mpr ⟨(okS_cons.mp (okS_cons.mp hs).2).1, hs⟩⟩, frP.refl⟩
      · rw [if_neg hb] at ho; cases ho
    · cases ho
      exact ⟨hl, okS_cons.mpr ⟨okS_long _, hs⟩, frP.refl⟩
    · cases ho
  case getfield a =>
    simp only [tv_op] at ho
    split at ho
    · rename_i k r
      unfold tv_fld at ho
      cases hb : (Nat.beq (tagN k) (10 + r1) && Nat.blt r2 (lenN k)) with
      | false => rw [hb] at ho; cases ho
      | true =>
        rw [hb] at ho
        rw [Bool.and_eq_true] at hb
        have hf : r2 < lenN k := Nat.blt_eq.mp hb.2
        have hk : k < 239 := lenN_lt (by omega)
        have hSk := hs k List.mem_cons_self hk
        cases e1 : Nat.blt (tv_kd (ftP r1 r2)) 2 with
        | true =>
          rw [e1] at ho
          cases ho
          exact ⟨hl, okS_cons.mpr ⟨okS_int _, (okS_cons.mp hs).2⟩, frP.refl⟩
        | false =>
          rw [e1] at ho
          cases hc : Nat.blt (refN k r2) 239 with
          | false => rw [hc] at ho; cases ho
          | true =>
            rw [hc] at ho
            cases ho
            refine ⟨hl, okS_cons.mpr ⟨fun j hj hlt => ?_, (okS_cons.mp hs).2⟩, frP.refl⟩
            have : Value.ref j = Value.ref (refN k r2) := List.mem_singleton.mp hj
            cases this
            have hB : ((List.range 239).all fun k => cond (S k && Nat.beq (tagN k) (10 + r1)) (cond (Nat.blt (refN k r2) 239) (S (refN k r2)) true) true) = true := hB
            have h3 := List.all_eq_true.mp hB k (List.mem_range.mpr hk)
            simp only [hSk, hb.1, Bool.and_self, cond_true, Nat.blt_eq.mpr hlt] at h3
            exact h3
    · cases ho
  case putfield a =>
    simp only [tv_op] at ho
    split at ho
    · rename_i x k r
      unfold tv_pfl at ho
      cases hb : (Nat.beq (tagN k) (10 + r1) && Nat.blt r2 (lenN k) && !(finP r1 r2)) with
      | false => rw [hb] at ho; cases ho
      | true =>
        rw [hb] at ho
        simp only [Bool.and_eq_true, Bool.not_eq_true'] at hb
        have hf : r2 < lenN k := Nat.blt_eq.mp hb.1.2
        have hk : k < 239 := lenN_lt (by omega)
        have hs2 := (okS_cons.mp hs).2
        have hSk := hs2 k List.mem_cons_self hk
        have hW : W r1 r2 = true := hB
        have ht : tagN k = 10 + r1 := Nat.eq_of_beq_eq_true hb.1.1
        have hW2 : 10 ≤ tagN k → W (tagN k - 10) r2 = true := fun _ => by rw [ht, Nat.add_sub_cancel_left]; exact hW
        cases h0 : Nat.beq (tv_kd (ftP r1 r2)) 0 with
        | true =>
          rw [h0] at ho
          cases ho
          exact ⟨hl, (okS_cons.mp hs2).2, frP_wr hSk _ _ hW2⟩
        | false =>
          rw [h0] at ho
          cases h1 : Nat.beq (tv_kd (ftP r1 r2)) 1 with
          | false => rw [h1] at ho; cases ho
          | true =>
            rw [h1] at ho
            have ho2 := congrArg Prod.snd (Option.some.inj ho)
            cases ho2
            exact ⟨hl, (okS_cons.mp hs2).2, frP_wr hSk _ _ hW2⟩
    · cases ho
  case iaload =>
    simp only [tv_op] at ho
    split at ho
    · obtain ⟨hb, ho⟩ := cond_some ho
      have ho2 := congrArg Prod.snd (Option.some.inj ho)
      cases ho2
      exact ⟨hl, okS_cons.mpr ⟨okS_int _, (okS_cons.mp (okS_cons.mp hs).2).2⟩, frP.refl⟩
    · obtain ⟨hb, ho⟩ := cond_some ho
      have ho2 := congrArg Prod.snd (Option.some.inj ho)
      cases ho2
      exact ⟨hl, okS_cons.mpr ⟨okS_int _, (okS_cons.mp (okS_cons.mp hs).2).2⟩, frP.refl⟩
    · cases ho
  case baload =>
    simp only [tv_op] at ho
    split at ho
    · obtain ⟨hb, ho⟩ := cond_some ho
      have ho2 := congrArg Prod.snd (Option.some.inj ho)
      cases ho2
      exact ⟨hl, okS_cons.mpr ⟨okS_int _, (okS_cons.mp (okS_cons.mp hs).2).2⟩, frP.refl⟩
    · cases ho
  case laload =>
    simp only [tv_op] at ho
    split at ho
    · obtain ⟨hb, ho⟩ := cond_some ho
      have ho2 := congrArg Prod.snd (Option.some.inj ho)
      cases ho2
      exact ⟨hl, okS_cons.mpr ⟨okS_long _, (okS_cons.mp (okS_cons.mp hs).2).2⟩, frP.refl⟩
    · cases ho
  case iastore =>
    simp only [tv_op] at ho
    split at ho
    · obtain ⟨hb, ho⟩ := cond_some ho
      have ho2 := congrArg Prod.snd (Option.some.inj ho)
      cases ho2
      have hs3 := (okS_cons.mp (okS_cons.mp hs).2).2
      exact ⟨hl, (okS_cons.mp hs3).2, frP_wr (okS_tag hs3 (by rw [Nat.eq_of_beq_eq_true hb]; decide)) _ _ (fun q => by rw [Nat.eq_of_beq_eq_true hb] at q; omega)⟩
    · cases ho
  case bastore =>
    simp only [tv_op] at ho
    split at ho
    · obtain ⟨hb, ho⟩ := cond_some ho
      have ho2 := congrArg Prod.snd (Option.some.inj ho)
      cases ho2
      have hs3 := (okS_cons.mp (okS_cons.mp hs).2).2
      exact ⟨hl, (okS_cons.mp hs3).2, frP_wr (okS_tag hs3 (by rw [Nat.eq_of_beq_eq_true hb]; cases Nat.beq r3 0 <;> decide)) _ _ (fun q => by rw [Nat.eq_of_beq_eq_true hb] at q; exact absurd q (by cases Nat.beq r3 0 <;> decide))⟩
    · cases ho
  case lastore =>
    simp only [tv_op] at ho
    split at ho
    · obtain ⟨hb, ho⟩ := cond_some ho
      have ho2 := congrArg Prod.snd (Option.some.inj ho)
      cases ho2
      have hs3 := (okS_cons.mp (okS_cons.mp hs).2).2
      exact ⟨hl, (okS_cons.mp hs3).2, frP_wl (okS_tag hs3 (by rw [Nat.eq_of_beq_eq_true hb]; decide)) _ _⟩
    · cases ho
  case arraylength =>
    simp only [tv_op] at ho
    split at ho
    · obtain ⟨hb, ho⟩ := cond_some ho
      cases ho
      exact ⟨hl, okS_cons.mpr ⟨okS_int _, (okS_cons.mp hs).2⟩, frP.refl⟩
    · obtain ⟨hb, ho⟩ := cond_some ho
      cases ho
      exact ⟨hl, okS_cons.mpr ⟨okS_int _, (okS_cons.mp hs).2⟩, frP.refl⟩
    · cases ho
  all_goals (simp only [tv_op] at ho; cases ho)
def frIP (S : Nat → Bool) (W : Nat → Nat → Bool) (Ms : Nat → Bool) (L : Nat) (xs : Nat → Int32) (n : Nat) : Prop := ∀ (d M pc : Nat) (ls : tvL) (st : List Value) (σ : tvS) (o : tvO) (σ' : tvS), Ms M = true → tv_exec L xs n d M pc ls st σ = some (o, σ') → okS S ls → okS S st → frP S W σ σ'
variable {L : Nat} {xs : Nat → Int32} {n d M pc : Nat} {o : tvO}
theorem tv_call_frP (ih : frIP S W Ms L xs n) {M' k : Nat} (hM : Ms M = true) (hM' : Ms M' = true) (hl : okS S ls) (hs : okS S st)
    (hc : tv_call (tv_exec L xs n) (fun pc' ls' st' σ' => tv_exec L xs n d M pc' ls' st' σ') d M pc M' k ls st σ = some (o, σ')) : frP S W σ σ' := by
  unfold tv_call at hc
  obtain ⟨hb, hc⟩ := cond_some hc
  obtain ⟨d', hd, hc⟩ := mD_some hc
  have hdr : okS S (st.drop k) := okS_sub hs (fun v hv => List.mem_of_mem_drop hv)
  have htk : okS S (st.take k).reverse := okS_sub hs (fun v hv => List.mem_of_mem_take (List.mem_reverse.mp hv))
  rcases bC_inv hc with ⟨v, σ2, e1, e2, e3⟩ | ⟨t, j, σ2, e1, e3⟩
  · obtain ⟨f1, f2⟩ := cond_some e3
    have hv : okS S v.toList := by
      intro k' hk' hlt
      have := e2 (fun _ => k' + 1)
      cases v with
      | none => cases hk'
      | some w =>
        have hw : w = .ref k' := (List.mem_singleton.mp hk').symm
        subst hw
        have h1 := (List.cons.inj this).1
        rw [mv_ref hlt] at h1
        cases h1
    exact (ih _ _ _ _ _ _ _ _ hM' e1 (okS_pad _ _ (okS_arg _ htk)) okS_nil).trans (ih _ _ _ _ _ _ _ _ hM f2 (okS_dj hl) (okS_app hv hdr))
  · have h1 := ih _ _ _ _ _ _ _ _ hM' e1 (okS_pad _ _ (okS_arg _ htk)) okS_nil
    cases hh : pv_hnd (miP M).2.2.2 pc t with
    | none =>
      rw [hh] at e3
      have e3 : some (Sum.inr (t, j), σ2) = some (o, σ') := e3
      cases e3
      exact h1
    | some hp =>
      rw [hh] at e3
      have e3 : tv_exec L xs n (d' + 1) M hp (ls.map dj) [.ref (239 + j)] σ2 = some (o, σ') := e3
      refine h1.trans (ih _ _ _ _ _ _ _ _ hM e3 (okS_dj hl) (fun k' hk' hlt => ?_))
      have : Value.ref k' = .ref (239 + j) := List.mem_singleton.mp hk'
      cases this
      exact absurd hlt (Nat.not_lt.mpr (Nat.le_add_right 239 j))
set_option maxHeartbeats 8000000 in
theorem tv_frPS (hS : clP S W Ms) (ih : frIP S W Ms L xs n) : frIP S W Ms L xs (n + 1) := by
  intro d M pc ls st σ o σ' hM hc hl hs
  unfold tv_exec at hc
  cases hi : insP M pc with
  | none => rw [hi] at hc; cases hc
  | some q =>
    obtain ⟨i, len, r1, r2, r3⟩ := q
    rw [hi] at hc
    have hB := hS M pc _ hM hi
    cases i
    case ifCond c off =>
      obtain ⟨x, r, hst, hc2⟩ := mI_some hc
      rw [hst] at hs
      have hr := (okS_cons.mp hs).2
      cases hb : pv_c1 c x with
      | true => rw [hb] at hc2; exact ih _ _ _ _ _ _ _ _ hM hc2 hl hr
      | false => rw [hb] at hc2; exact ih _ _ _ _ _ _ _ _ hM hc2 hl hr
    case if_icmp c off =>
      obtain ⟨x, y, r, hst, hc2⟩ := mII_some hc
      rw [hst] at hs
      have hr := (okS_cons.mp (okS_cons.mp hs).2).2
      cases hb : pv_c2 c x y with
      | true => rw [hb] at hc2; exact ih _ _ _ _ _ _ _ _ hM hc2 hl hr
      | false => rw [hb] at hc2; exact ih _ _ _ _ _ _ _ _ hM hc2 hl hr
    case ifnull off =>
      obtain ⟨r, ⟨k, hst, hc2⟩ | ⟨hst, hc2⟩⟩ := mR_some hc
      · rw [hst] at hs
        exact ih _ _ _ _ _ _ _ _ hM hc2 hl (okS_cons.mp hs).2
      · rw [hst] at hs
        exact ih _ _ _ _ _ _ _ _ hM hc2 hl (okS_cons.mp hs).2
    case goto off => exact ih _ _ _ _ _ _ _ _ hM hc hl hs
    case tableswitch a b c e =>
      obtain ⟨x, r, hst, hc2⟩ := mI_some hc
      rw [hst] at hs
      obtain ⟨pc', e1, e2⟩ := sw_sim (L := L) (xs := xs) (r := []) hi (Or.inl ⟨_, _, _, _, rfl⟩) hc2
      exact ih _ _ _ _ _ _ _ _ hM e1 hl (okS_cons.mp hs).2
    case lookupswitch a b =>
      obtain ⟨x, r, hst, hc2⟩ := mI_some hc
      rw [hst] at hs
      obtain ⟨pc', e1, e2⟩ := sw_sim (L := L) (xs := xs) (r := []) hi (Or.inr ⟨_, _, rfl⟩) hc2
      exact ih _ _ _ _ _ _ _ _ hM e1 hl (okS_cons.mp hs).2
    case new a =>
      obtain ⟨hb, hc2⟩ := cond_some (show cond _ _ none = some (o, σ') from hc)
      obtain ⟨hb2, hc3⟩ := cond_some hc2
      cases hc3
      exact ⟨fun k hk => ⟨fun _ => rfl, fun _ => rfl, rfl, rfl⟩, fun _ _ _ _ _ => rfl⟩
    case invokevirtual a =>
      have hc : cond (Nat.beq r1 431) _ (cond (Nat.beq r1 433) _ _) = some (o, σ') := hc
      cases h1 : Nat.beq r1 431 with
      | true =>
        rw [h1] at hc
        obtain ⟨j, r, hst, hcA⟩ := mF_some hc
        obtain ⟨hb, hcB⟩ := cond_some hcA
        obtain ⟨d', hd, hcC⟩ := mD_some hcB
        rw [hst] at hs
        exact ih _ _ _ _ _ _ _ _ hM hcC hl (okS_cons.mpr ⟨okS_int _, (okS_cons.mp hs).2⟩)
      | false =>
        rw [h1] at hc
        have hc : cond (Nat.beq r1 433) _ _ = some (o, σ') := hc
        cases h2 : Nat.beq r1 433 with
        | true =>
          rw [h2] at hc
          obtain ⟨i, j, r, hst, hcA⟩ := mIF_some hc
          obtain ⟨hb, hcB⟩ := cond_some hcA
          obtain ⟨d', hd, hcC⟩ := mD_some hcB
          obtain ⟨hb5, hcD⟩ := cond_some hcC
          rw [hst] at hs
          exact ih _ _ _ _ _ _ _ _ hM hcD hl (okS_cons.mpr ⟨okS_int _, (okS_cons.mp (okS_cons.mp hs).2).2⟩)
        | false =>
          rw [h2] at hc
          obtain ⟨hb, hc2⟩ := cond_some (show cond _ _ none = some (o, σ') from hc)
          have hB : (Nat.beq r1 431 || (Nat.beq r1 433 || Ms r1)) = true := hB
          rw [h1, h2, Bool.false_or, Bool.false_or] at hB
          exact tv_call_frP ih hM hB hl hs hc2
    case invokestatic a =>
      obtain ⟨hb, hc2⟩ := cond_some (show cond _ _ none = some (o, σ') from hc)
      cases h1 : Nat.beq r1 440 with
      | true =>
        rw [h1] at hc2
        obtain ⟨d', hd, hcC⟩ := mD_some hc2
        obtain ⟨hb5, hcD⟩ := cond_some hcC
        unfold tv_grow at hcD
        obtain ⟨m, k, o', r, hst, hcE⟩ := mG_some hcD
        obtain ⟨a, len', ci, f, r3', hi2, hcF⟩ := mP_some hcE
        obtain ⟨hb6, hcG⟩ := cond_some hcF
        obtain ⟨hb7, hcH⟩ := cond_some hcG
        rw [hst] at hs
        have hs2 := (okS_cons.mp hs).2
        rw [Bool.and_eq_true] at hb6
        exact (frP_gw (hs2 k List.mem_cons_self (grw_lt hb6.1)) hb6.1 _).trans (ih _ _ _ _ _ _ _ _ hM hcH (okS_dj hl) (okS_cons.mp (okS_cons.mp hs2).2).2)
      | false =>
        rw [h1] at hc2
        have hB : (Nat.beq r1 440 || Ms r1) = true := hB
        rw [h1, Bool.false_or] at hB
        exact tv_call_frP ih hM hB hl hs hc2
    case ireturn =>
      obtain ⟨x, hst, hc2⟩ := m1I_some hc
      unfold rtI at hc2
      split at hc2
      · cases hc2; exact frP.refl
      · obtain ⟨_, hc3⟩ := cond_some hc2
        cases hc3; exact frP.refl
      · cases hc2
    case lreturn =>
      obtain ⟨x, hst, hc2⟩ := m1L_some hc
      unfold rtL at hc2
      split at hc2
      · cases hc2; exact frP.refl
      · cases hc2
    case areturn =>
      obtain ⟨x, hst, hc2⟩ := m1F_some hc
      unfold rtF at hc2
      split at hc2
      · cases hc2; exact frP.refl
      · cases hc2
    case return_ =>
      obtain ⟨hst, hc2⟩ := m0_some hc
      unfold rtV at hc2
      split at hc2
      · cases hc2; exact frP.refl
      · cases hc2
    all_goals
      simp only [tv_G] at hc
      obtain ⟨ls', st', σ2, e1, e2⟩ := opk_some hc
      obtain ⟨f1, f2, f3⟩ := tv_op_frP hB hl hs e1
      exact f3.trans (ih _ _ _ _ _ _ _ _ hM e2 f1 f2)
theorem tv_frP (hS : clP S W Ms) : ∀ n, frIP S W Ms L xs n := by
  intro n
  induction n with
  | zero => intro d M pc ls st σ o σ' _ hc; cases hc
  | succ n ih => exact tv_frPS hS ih
theorem rn_frP (hS : clP S W Ms) (hM : Ms M = true) {r : tvO × tvS} (hr : rn L xs d M pc ls st σ = some r) (hl : okS S ls) (hs : okS S st) : frP S W σ r.2 := by
  obtain ⟨n, hn⟩ := rn_to L xs hr
  exact tv_frP hS n d M pc ls st σ r.1 r.2 hM (hn n (Nat.le_refl n)) hl hs
end FRP
