/-! FRAMES: code that is given names of a closed set writes to those alone -/
def okS (S : Nat → Bool) (l : List Value) : Prop := ∀ k, Value.ref k ∈ l → k < 239 → S k = true
def frS (S : Nat → Bool) (σ σ' : tvS) : Prop := ∀ k, S k = false → (∀ i, rd σ' k i = rd σ k i) ∧ (∀ i, rl σ' k i = rl σ k i) ∧ ln σ' k = ln σ k ∧ rh σ' k = rh σ k
def clS (S : Nat → Bool) : Prop := ∀ k f, k < 239 → S k = true → refN k f < 239 → S (refN k f) = true
section FRS
variable {S : Nat → Bool} {σ σ' σ'' : tvS} {ls : tvL} {st : List Value}
theorem frS.refl : frS S σ σ := fun k _ => ⟨fun _ => rfl, fun _ => rfl, rfl, rfl⟩
theorem frS.trans (h1 : frS S σ σ') (h2 : frS S σ' σ'') : frS S σ σ'' := fun k hk => by
  obtain ⟨a1, a2, a3, a4⟩ := h1 k hk
  obtain ⟨b1, b2, b3, b4⟩ := h2 k hk
  exact ⟨fun i => (b1 i).trans (a1 i), fun i => (b2 i).trans (a2 i), b3.trans a3, b4.trans a4⟩
theorem frS_wr {k : Nat} (hk : S k = true) (i : Nat) (x : Int32) : frS S σ (wr σ k i x) := fun j hj => by
  refine ⟨fun i' => ?_, fun _ => rfl, rfl, rfl⟩
  rw [rd_wr, if_neg (fun q => by rw [q.1, hk] at hj; cases hj)]
theorem frS_wl {k : Nat} (hk : S k = true) (i : Nat) (x : Int64) : frS S σ (wl σ k i x) := fun j hj => by
  refine ⟨fun _ => rfl, fun i' => ?_, rfl, rfl⟩
  rw [rl_wl, if_neg (fun q => by rw [q.1, hk] at hj; cases hj)]
theorem frS_gw {k : Nat} (hk : S k = true) (n : Nat) : frS S σ (gw σ k n) := fun j hj => by
  have e : j ≠ k := fun q => by rw [q, hk] at hj; cases hj
  refine ⟨fun i' => ?_, fun _ => rfl, ?_, ?_⟩
  · rw [rd_gw, if_neg e]
  · show va_up σ.2.2.1 k n j = _
    rw [va_up_ne _ _ e]; rfl
  · rw [rh_gw, if_neg e]
theorem okS_nil : okS S [] := fun k h => by cases h
theorem okS_cons {v : Value} {r : List Value} : okS S (v :: r) ↔ okS S [v] ∧ okS S r := by
  constructor
  · intro h
    exact ⟨fun k hk => h k (by rw [List.mem_singleton.mp hk]; exact List.mem_cons_self), fun k hk => h k (List.mem_cons_of_mem _ hk)⟩
  · intro h k hk
    rcases List.mem_cons.mp hk with e | e
    · exact h.1 k (by rw [e]; exact List.mem_cons_self)
    · exact h.2 k e
theorem okS_one {v : Value} (h : ∀ k, v ≠ .ref k) : okS S [v] := fun k hk => absurd (List.mem_singleton.mp hk).symm (h k)
theorem okS_int (x : Int32) : okS S [.int x] := okS_one (fun k h => by cases h)
theorem okS_long (x : Int64) : okS S [.long x] := okS_one (fun k h => by cases h)
theorem okS_float (x : UInt32) : okS S [.float x] := okS_one (fun k h => by cases h)
theorem okS_null : okS S [.null] := okS_one (fun k h => by cases h)
theorem okS_app {a b : List Value} (h1 : okS S a) (h2 : okS S b) : okS S (a ++ b) := fun k hk => by
  rcases List.mem_append.mp hk with e | e
  · exact h1 k e
  · exact h2 k e
theorem okS_sub {a b : List Value} (h : okS S b) (hs : ∀ v ∈ a, v ∈ b) : okS S a := fun k hk => h k (hs _ hk)
theorem okS_lg {k : Nat} (h : okS S ls) (hn : pv_isR (lg ls k) = true) : okS S [lg ls k] := by
  have : lg ls k ∈ ls := List.mem_of_getElem? (lg_at ls k (fun x e => by rw [e] at hn; cases hn))
  exact okS_sub h (fun v hv => by rw [List.mem_singleton.mp hv]; exact this)
theorem jk_ref {a : Value} {k : Nat} (h : jk a = .ref k) : a = .ref k := by cases a <;> first | exact h | cases h
theorem dj_ref {a : Value} {k : Nat} (h : dj a = .ref k) : a = .ref k := by
  cases a with
  | ref j =>
    have h : cond (grw j) jv (.ref j) = .ref k := h
    cases e : grw j with
    | true => rw [e] at h; cases h
    | false => rw [e] at h; exact h
  | _ => exact h
theorem okS_ls1 : ∀ (ls : tvL) (k : Nat) (v : Value), okS S ls → okS S [v] → okS S (ls1 ls k v) := by
  intro ls k v h hv j hj
  obtain ⟨i, hi⟩ := List.getElem?_of_mem hj
  rcases ls1_at ls k v i _ hi with ⟨_, e⟩ | ⟨_, a, e1, e2⟩ | ⟨_, _, e⟩
  · exact hv j (by rw [e]; exact List.mem_cons_self)
  · exact h j (by rw [← jk_ref e2.symm]; exact List.mem_of_getElem? e1)
  · exact h j (List.mem_of_getElem? e)
theorem okS_ls2 : ∀ (ls : tvL) (k : Nat) (v : Value), k + 1 < ls.length → okS S ls → okS S [v] → okS S (ls2 ls k v) := by
  intro ls k v hk h hv j hj
  obtain ⟨i, hi⟩ := List.getElem?_of_mem hj
  rcases ls2_at ls k v i _ hk hi with ⟨_, e⟩ | ⟨_, e⟩ | ⟨_, a, e1, e2⟩ | ⟨_, _, _, e⟩
  · exact hv j (by rw [e]; exact List.mem_cons_self)
  · cases e
  · exact h j (by rw [← jk_ref e2.symm]; exact List.mem_of_getElem? e1)
  · exact h j (List.mem_of_getElem? e)
theorem okS_dj (h : okS S ls) : okS S (ls.map dj) := fun k hk => by
  obtain ⟨a, h1, h2⟩ := List.mem_map.mp hk
  exact h k (by rw [← dj_ref h2]; exact h1)
theorem okS_arg : ∀ (av : List Value), okS S av → okS S (tv_arg av) := by
  intro av
  induction av with
  | nil => intro h; exact h
  | cons a r ih =>
    intro h
    obtain ⟨h1, h2⟩ := okS_cons.mp h
    have := ih h2
    show okS S (cond (Nat.beq a.category 2) (a :: jv :: tv_arg r) (a :: tv_arg r))
    cases Nat.beq a.category 2 with
    | true => exact okS_cons.mpr ⟨h1, okS_cons.mpr ⟨okS_one (fun k e => by cases e), this⟩⟩
    | false => exact okS_cons.mpr ⟨h1, this⟩
theorem okS_pad : ∀ (n : Nat) (l : List Value), okS S l → okS S (tv_pad n l) := by
  intro n
  induction n with
  | zero => intro l h; exact h
  | succ n ih =>
    intro l h
    cases l with
    | nil => exact okS_cons.mpr ⟨okS_one (fun k e => by cases e), ih [] okS_nil⟩
    | cons a r => exact okS_cons.mpr ⟨(okS_cons.mp h).1, ih r (okS_cons.mp h).2⟩
theorem okS_tag {k : Nat} {r : List Value} (h : okS S (.ref k :: r)) (ht : tagN k ≠ 9999) : S k = true := h k List.mem_cons_self (tagN_lt ht)
set_option maxHeartbeats 8000000 in
theorem tv_op_fr {L : Nat} {xs : Nat → Int32} (hS : clS S) {i : Instr} {r1 r2 r3 : Nat} {ls' : tvL} {st' : List Value} (hl : okS S ls) (hs : okS S st) (ho : tv_op L xs i r1 r2 r3 ls st σ = some (true, ls', st', σ')) : okS S ls' ∧ okS S st' ∧ frS S σ σ' := by
  cases i
  case iadd | isub | imul | iand | ior =>
    simp only [tv_op] at ho
    split at ho
    · cases ho
      exact ⟨hl, okS_cons.mpr ⟨okS_int _, (okS_cons.mp (okS_cons.mp hs).2).2⟩, frS.refl⟩
    · cases ho
  case ladd | lsub | lmul | land | lor | lshl | lshr | lushr =>
    simp only [tv_op] at ho
    split at ho
    · cases ho
      exact ⟨hl, okS_cons.mpr ⟨okS_long _, (okS_cons.mp (okS_cons.mp hs).2).2⟩, frS.refl⟩
    · cases ho
  case lcmp =>
    simp only [tv_op] at ho
    split at ho
    · cases ho
      exact ⟨hl, okS_cons.mpr ⟨okS_int _, (okS_cons.mp (okS_cons.mp hs).2).2⟩, frS.refl⟩
    · cases ho
  case lneg | i2l =>
    simp only [tv_op] at ho
    split at ho
    · cases ho
      exact ⟨hl, okS_cons.mpr ⟨okS_long _, (okS_cons.mp hs).2⟩, frS.refl⟩
    · cases ho
  case i2b | i2c | l2i =>
    simp only [tv_op] at ho
    split at ho
    · cases ho
      exact ⟨hl, okS_cons.mpr ⟨okS_int _, (okS_cons.mp hs).2⟩, frS.refl⟩
    · cases ho
  case iconst | bipush | sipush =>
    simp only [tv_op] at ho
    cases ho
    exact ⟨hl, okS_cons.mpr ⟨okS_int _, hs⟩, frS.refl⟩
  case lconst | ldc2_w =>
    simp only [tv_op] at ho
    cases ho
    exact ⟨hl, okS_cons.mpr ⟨okS_long _, hs⟩, frS.refl⟩
  case aconst_null =>
    simp only [tv_op] at ho
    cases ho
    exact ⟨hl, okS_cons.mpr ⟨okS_null, hs⟩, frS.refl⟩
  case idiv | irem =>
    simp only [tv_op] at ho
    split at ho
    · have ho2 := congrArg Prod.snd (Option.some.inj ho)
      cases ho2
      exact ⟨hl, okS_cons.mpr ⟨okS_int _, (okS_cons.mp (okS_cons.mp hs).2).2⟩, frS.refl⟩
    · cases ho
  case ldiv | lrem =>
    simp only [tv_op] at ho
    split at ho
    · have ho2 := congrArg Prod.snd (Option.some.inj ho)
      cases ho2
      exact ⟨hl, okS_cons.mpr ⟨okS_long _, (okS_cons.mp (okS_cons.mp hs).2).2⟩, frS.refl⟩
    · cases ho
  case ldc | ldc_w =>
    simp only [tv_op] at ho
    cases hb : Nat.beq r3 0 with
    | true =>
      rw [hb] at ho
      cases ho
      exact ⟨hl, okS_cons.mpr ⟨okS_int _, hs⟩, frS.refl⟩
    | false =>
      rw [hb] at ho
      cases ho
      exact ⟨hl, okS_cons.mpr ⟨okS_float _, hs⟩, frS.refl⟩
  case aload_n k | aload k =>
    simp only [tv_op] at ho
    obtain ⟨hb, ho⟩ := cond_some ho
    cases ho
    exact ⟨hl, okS_cons.mpr ⟨okS_lg hl hb, hs⟩, frS.refl⟩
  case iload_n k | iload k =>
    simp only [tv_op, vI] at ho
    split at ho
    · cases ho
      exact ⟨hl, okS_cons.mpr ⟨okS_int _, hs⟩, frS.refl⟩
    · cases ho
  case lload_n k | lload k =>
    simp only [tv_op, vL] at ho
    split at ho
    · cases ho
      exact ⟨hl, okS_cons.mpr ⟨okS_long _, hs⟩, frS.refl⟩
    · cases ho
  case istore_n k | istore k =>
    simp only [tv_op] at ho
    split at ho
    · obtain ⟨hb, ho⟩ := cond_some ho
      cases ho
      exact ⟨okS_ls1 _ _ _ hl (okS_int _), (okS_cons.mp hs).2, frS.refl⟩
    · cases ho
  case lstore_n k | lstore k =>
    simp only [tv_op] at ho
    split at ho
    · obtain ⟨hb, ho⟩ := cond_some ho
      cases ho
      exact ⟨okS_ls2 _ _ _ (Nat.blt_eq.mp hb) hl (okS_long _), (okS_cons.mp hs).2, frS.refl⟩
    · cases ho
  case astore_n k | astore k =>
    simp only [tv_op] at ho
    split at ho
    · obtain ⟨hb, ho⟩ := cond_some ho
      cases ho
      exact ⟨okS_ls1 _ _ _ hl (okS_cons.mp hs).1, (okS_cons.mp hs).2, frS.refl⟩
    · cases ho
  case iinc k n =>
    simp only [tv_op, vI] at ho
    split at ho
    · obtain ⟨hb, ho⟩ := cond_some ho
      cases ho
      exact ⟨okS_ls1 _ _ _ hl (okS_int _), hs, frS.refl⟩
    · cases ho
  case dup =>
    simp only [tv_op] at ho
    split at ho
    · obtain ⟨hb, ho⟩ := cond_some ho
      cases ho
      exact ⟨hl, okS_cons.mpr ⟨(okS_cons.mp hs).1, hs⟩, frS.refl⟩
    · cases ho
  case pop =>
    simp only [tv_op] at ho
    split at ho
    · obtain ⟨hb, ho⟩ := cond_some ho
      cases ho
      exact ⟨hl, (okS_cons.mp hs).2, frS.refl⟩
    · cases ho
  case dup2 =>
    simp only [tv_op, pv_dup2] at ho
    split at ho
    · rename_i a b r
      by_cases hb : b.category = 1
      · rw [if_pos hb] at ho
        cases ho
        refine ⟨hl, okS_cons.mpr ⟨okS_int _, okS_cons.mpr ⟨(okS_cons.mp (okS_cons.mp hs).2).1, hs⟩⟩, frS.refl⟩
      · rw [if_neg hb] at ho; cases ho
    · cases ho
      exact ⟨hl, okS_cons.mpr ⟨okS_long _, hs⟩, frS.refl⟩
    · cases ho
  case getfield a =>
    simp only [tv_op] at ho
    split at ho
    · rename_i k r
      unfold tv_fld at ho
      cases hb : (Nat.beq (tagN k) (10 + r1) && Nat.blt r2 (lenN k)) with
      | false => rw [hb] at ho; cases ho
      | true =>
        rw [hb] at ho
        rw [Bool.and_eq_true] at hb
        have hf : r2 < lenN k := Nat.blt_eq.mp hb.2
        have hk : k < 239 := lenN_lt (by omega)
        have hSk := hs k List.mem_cons_self hk
        cases e1 : Nat.blt (tv_kd (ftP r1 r2)) 2 with
        | true =>
          rw [e1] at ho
          cases ho
          exact ⟨hl, okS_cons.mpr ⟨okS_int _, (okS_cons.mp hs).2⟩, frS.refl⟩
        | false =>
          rw [e1] at ho
          cases hc : Nat.blt (refN k r2) 239 with
          | false => rw [hc] at ho; cases ho
          | true =>
            rw [hc] at ho
            cases ho
            refine ⟨hl, okS_cons.mpr ⟨fun j hj hlt => ?_, (okS_cons.mp hs).2⟩, frS.refl⟩
            have : Value.ref j = Value.ref (refN k r2) := List.mem_singleton.mp hj
            cases this
            exact hS k r2 hk hSk hlt
    · cases ho
  case putfield a =>
    simp only [tv_op] at ho
    split at ho
    · rename_i x k r
      unfold tv_pfl at ho
      cases hb : (Nat.beq (tagN k) (10 + r1) && Nat.blt r2 (lenN k) && !(finP r1 r2)) with
      | false => rw [hb] at ho; cases ho
      | true =>
        rw [hb] at ho
        simp only [Bool.and_eq_true, Bool.not_eq_true'] at hb
        have hf : r2 < lenN k := Nat.blt_eq.mp hb.1.2
        have hk : k < 239 := lenN_lt (by omega)
        have hs2 := (okS_cons.mp hs).2
        have hSk := hs2 k List.mem_cons_self hk
        cases h0 : Nat.beq (tv_kd (ftP r1 r2)) 0 with
        | true =>
          rw [h0] at ho
          cases ho
          exact ⟨hl, (okS_cons.mp hs2).2, frS_wr hSk _ _⟩
        | false =>
          rw [h0] at ho
          cases h1 : Nat.beq (tv_kd (ftP r1 r2)) 1 with
          | false => rw [h1] at ho; cases ho
          | true =>
            rw [h1] at ho
            have ho2 := congrArg Prod.snd (Option.some.inj ho)
            cases ho2
            exact ⟨hl, (okS_cons.mp hs2).2, frS_wr hSk _ _⟩
    · cases ho
  case iaload =>
    simp only [tv_op] at ho
    split at ho
    · obtain ⟨hb, ho⟩ := cond_some ho
      have ho2 := congrArg Prod.snd (Option.some.inj ho)
      cases ho2
      exact ⟨hl, okS_cons.mpr ⟨okS_int _, (okS_cons.mp (okS_cons.mp hs).2).2⟩, frS.refl⟩
    · obtain ⟨hb, ho⟩ := cond_some ho
      have ho2 := congrArg Prod.snd (Option.some.inj ho)
      cases ho2
      exact ⟨hl, okS_cons.mpr ⟨okS_int _, (okS_cons.mp (okS_cons.mp hs).2).2⟩, frS.refl⟩
    · cases ho
  case baload =>
    simp only [tv_op] at ho
    split at ho
    · obtain ⟨hb, ho⟩ := cond_some ho
      have ho2 := congrArg Prod.snd (Option.some.inj ho)
      cases ho2
      exact ⟨hl, okS_cons.mpr ⟨okS_int _, (okS_cons.mp (okS_cons.mp hs).2).2⟩, frS.refl⟩
    · cases ho
  case laload =>
    simp only [tv_op] at ho
    split at ho
    · obtain ⟨hb, ho⟩ := cond_some ho
      have ho2 := congrArg Prod.snd (Option.some.inj ho)
      cases ho2
      exact ⟨hl, okS_cons.mpr ⟨okS_long _, (okS_cons.mp (okS_cons.mp hs).2).2⟩, frS.refl⟩
    · cases ho
  case iastore =>
    simp only [tv_op] at ho
    split at ho
    · obtain ⟨hb, ho⟩ := cond_some ho
      have ho2 := congrArg Prod.snd (Option.some.inj ho)
      cases ho2
      have hs3 := (okS_cons.mp (okS_cons.mp hs).2).2
      exact ⟨hl, (okS_cons.mp hs3).2, frS_wr (okS_tag hs3 (by rw [Nat.eq_of_beq_eq_true hb]; decide)) _ _⟩
    · cases ho
  case bastore =>
    simp only [tv_op] at ho
    split at ho
    · obtain ⟨hb, ho⟩ := cond_some ho
      have ho2 := congrArg Prod.snd (Option.some.inj ho)
      cases ho2
      have hs3 := (okS_cons.mp (okS_cons.mp hs).2).2
      exact ⟨hl, (okS_cons.mp hs3).2, frS_wr (okS_tag hs3 (by rw [Nat.eq_of_beq_eq_true hb]; cases Nat.beq r3 0 <;> decide)) _ _⟩
    · cases ho
  case lastore =>
    simp only [tv_op] at ho
    split at ho
    · obtain ⟨hb, ho⟩ := cond_some ho
      have ho2 := congrArg Prod.snd (Option.some.inj ho)
      cases ho2
      have hs3 := (okS_cons.mp (okS_cons.mp hs).2).2
      exact ⟨hl, (okS_cons.mp hs3).2, frS_wl (okS_tag hs3 (by rw [Nat.eq_of_beq_eq_true hb]; decide)) _ _⟩
    · cases ho
  case arraylength =>
    simp only [tv_op] at ho
    split at ho
    · obtain ⟨hb, ho⟩ := cond_some ho
      cases ho
      exact ⟨hl, okS_cons.mpr ⟨okS_int _, (okS_cons.mp hs).2⟩, frS.refl⟩
    · obtain ⟨hb, ho⟩ := cond_some ho
      cases ho
      exact ⟨hl, okS_cons.mpr ⟨okS_int _, (okS_cons.mp hs).2⟩, frS.refl⟩
    · cases ho
  all_goals (simp only [tv_op] at ho; cases ho)
def frI (S : Nat → Bool) (L : Nat) (xs : Nat → Int32) (n : Nat) : Prop := ∀ (d M pc : Nat) (ls : tvL) (st : List Value) (σ : tvS) (o : tvO) (σ' : tvS), tv_exec L xs n d M pc ls st σ = some (o, σ') → okS S ls → okS S st → frS S σ σ'
variable {L : Nat} {xs : Nat → Int32} {n d M pc : Nat} {o : tvO}
theorem tv_call_fr (ih : frI S L xs n) {M' k : Nat} (hl : okS S ls) (hs : okS S st)
    (hc : tv_call (tv_exec L xs n) (fun pc' ls' st' σ' => tv_exec L xs n d M pc' ls' st' σ') d M pc M' k ls st σ = some (o, σ')) : frS S σ σ' := by
  unfold tv_call at hc
  obtain ⟨hb, hc⟩ := cond_some hc
  obtain ⟨d', hd, hc⟩ := mD_some hc
  have hdr : okS S (st.drop k) := okS_sub hs (fun v hv => List.mem_of_mem_drop hv)
  have htk : okS S (st.take k).reverse := okS_sub hs (fun v hv => List.mem_of_mem_take (List.mem_reverse.mp hv))
  rcases bC_inv hc with ⟨v, σ2, e1, e2, e3⟩ | ⟨t, j, σ2, e1, e3⟩
  · obtain ⟨f1, f2⟩ := cond_some e3
    have hv : okS S v.toList := by
      intro k' hk' hlt
      have := e2 (fun _ => k' + 1)
      cases v with
      | none => cases hk'
      | some w =>
        have hw : w = .ref k' := (List.mem_singleton.mp hk').symm
        subst hw
        have h1 := (List.cons.inj this).1
        rw [mv_ref hlt] at h1
        cases h1
    exact (ih _ _ _ _ _ _ _ _ e1 (okS_pad _ _ (okS_arg _ htk)) okS_nil).trans (ih _ _ _ _ _ _ _ _ f2 (okS_dj hl) (okS_app hv hdr))
  · have h1 := ih _ _ _ _ _ _ _ _ e1 (okS_pad _ _ (okS_arg _ htk)) okS_nil
    cases hh : pv_hnd (miP M).2.2.2 pc t with
    | none =>
      rw [hh] at e3
      have e3 : some (Sum.inr (t, j), σ2) = some (o, σ') := e3
      cases e3
      exact h1
    | some hp =>
      rw [hh] at e3
      have e3 : tv_exec L xs n (d' + 1) M hp (ls.map dj) [.ref (239 + j)] σ2 = some (o, σ') := e3
      refine h1.trans (ih _ _ _ _ _ _ _ _ e3 (okS_dj hl) (fun k' hk' hlt => ?_))
      have : Value.ref k' = .ref (239 + j) := List.mem_singleton.mp hk'
      cases this
      exact absurd hlt (Nat.not_lt.mpr (Nat.le_add_right 239 j))
set_option maxHeartbeats 8000000 in
theorem tv_frS (hS : clS S) (ih : frI S L xs n) : frI S L xs (n + 1) := by
  intro d M pc ls st σ o σ' hc hl hs
  unfold tv_exec at hc
  cases hi : insP M pc with
  | none => rw [hi] at hc; cases hc
  | some q =>
    obtain ⟨i, len, r1, r2, r3⟩ := q
    rw [hi] at hc
    cases i
    case ifCond c off =>
      obtain ⟨x, r, hst, hc2⟩ := mI_some hc
      rw [hst] at hs
      have hr := (okS_cons.mp hs).2
      cases hb : pv_c1 c x with
      | true => rw [hb] at hc2; exact ih _ _ _ _ _ _ _ _ hc2 hl hr
      | false => rw [hb] at hc2; exact ih _ _ _ _ _ _ _ _ hc2 hl hr
    case if_icmp c off =>
      obtain ⟨x, y, r, hst, hc2⟩ := mII_some hc
      rw [hst] at hs
      have hr := (okS_cons.mp (okS_cons.mp hs).2).2
      cases hb : pv_c2 c x y with
      | true => rw [hb] at hc2; exact ih _ _ _ _ _ _ _ _ hc2 hl hr
      | false => rw [hb] at hc2; exact ih _ _ _ _ _ _ _ _ hc2 hl hr
    case ifnull off =>
      obtain ⟨r, ⟨k, hst, hc2⟩ | ⟨hst, hc2⟩⟩ := mR_some hc
      · rw [hst] at hs
        exact ih _ _ _ _ _ _ _ _ hc2 hl (okS_cons.mp hs).2
      · rw [hst] at hs
        exact ih _ _ _ _ _ _ _ _ hc2 hl (okS_cons.mp hs).2
    case goto off => exact ih _ _ _ _ _ _ _ _ hc hl hs
    case tableswitch a b c e =>
      obtain ⟨x, r, hst, hc2⟩ := mI_some hc
      rw [hst] at hs
      obtain ⟨pc', e1, e2⟩ := sw_sim (L := L) (xs := xs) (r := []) hi (Or.inl ⟨_, _, _, _, rfl⟩) hc2
      exact ih _ _ _ _ _ _ _ _ e1 hl (okS_cons.mp hs).2
    case lookupswitch a b =>
      obtain ⟨x, r, hst, hc2⟩ := mI_some hc
      rw [hst] at hs
      obtain ⟨pc', e1, e2⟩ := sw_sim (L := L) (xs := xs) (r := []) hi (Or.inr ⟨_, _, rfl⟩) hc2
      exact ih _ _ _ _ _ _ _ _ e1 hl (okS_cons.mp hs).2
    case new a =>
      obtain ⟨hb, hc2⟩ := cond_some (show cond _ _ none = some (o, σ') from hc)
      obtain ⟨hb2, hc3⟩ := cond_some hc2
      cases hc3
      exact fun k hk => ⟨fun _ => rfl, fun _ => rfl, rfl, rfl⟩
    case invokevirtual a =>
      have hc : cond (Nat.beq r1 431) _ (cond (Nat.beq r1 433) _ _) = some (o, σ') := hc
      cases h1 : Nat.beq r1 431 with
      | true =>
        rw [h1] at hc
        obtain ⟨j, r, hst, hcA⟩ := mF_some hc
        obtain ⟨hb, hcB⟩ := cond_some hcA
        obtain ⟨d', hd, hcC⟩ := mD_some hcB
        rw [hst] at hs
        exact ih _ _ _ _ _ _ _ _ hcC hl (okS_cons.mpr ⟨okS_int _, (okS_cons.mp hs).2⟩)
      | false =>
        rw [h1] at hc
        have hc : cond (Nat.beq r1 433) _ _ = some (o, σ') := hc
        cases h2 : Nat.beq r1 433 with
        | true =>
          rw [h2] at hc
          obtain ⟨i, j, r, hst, hcA⟩ := mIF_some hc
          obtain ⟨hb, hcB⟩ := cond_some hcA
          obtain ⟨d', hd, hcC⟩ := mD_some hcB
          obtain ⟨hb5, hcD⟩ := cond_some hcC
          rw [hst] at hs
          exact ih _ _ _ _ _ _ _ _ hcD hl (okS_cons.mpr ⟨okS_int _, (okS_cons.mp (okS_cons.mp hs).2).2⟩)
        | false =>
          rw [h2] at hc
          obtain ⟨hb, hc2⟩ := cond_some (show cond _ _ none = some (o, σ') from hc)
          exact tv_call_fr ih hl hs hc2
    case invokestatic a =>
      obtain ⟨hb, hc2⟩ := cond_some (show cond _ _ none = some (o, σ') from hc)
      cases h1 : Nat.beq r1 440 with
      | true =>
        rw [h1] at hc2
        obtain ⟨d', hd, hcC⟩ := mD_some hc2
        obtain ⟨hb5, hcD⟩ := cond_some hcC
        unfold tv_grow at hcD
        obtain ⟨m, k, o', r, hst, hcE⟩ := mG_some hcD
        obtain ⟨a, len', ci, f, r3', hi2, hcF⟩ := mP_some hcE
        obtain ⟨hb6, hcG⟩ := cond_some hcF
        obtain ⟨hb7, hcH⟩ := cond_some hcG
        rw [hst] at hs
        have hs2 := (okS_cons.mp hs).2
        rw [Bool.and_eq_true] at hb6
        exact (frS_gw (hs2 k List.mem_cons_self (grw_lt hb6.1)) _).trans (ih _ _ _ _ _ _ _ _ hcH (okS_dj hl) (okS_cons.mp (okS_cons.mp hs2).2).2)
      | false =>
        rw [h1] at hc2
        exact tv_call_fr ih hl hs hc2
    case ireturn =>
      obtain ⟨x, hst, hc2⟩ := m1I_some hc
      unfold rtI at hc2
      split at hc2
      · cases hc2; exact frS.refl
      · obtain ⟨_, hc3⟩ := cond_some hc2
        cases hc3; exact frS.refl
      · cases hc2
    case lreturn =>
      obtain ⟨x, hst, hc2⟩ := m1L_some hc
      unfold rtL at hc2
      split at hc2
      · cases hc2; exact frS.refl
      · cases hc2
    case areturn =>
      obtain ⟨x, hst, hc2⟩ := m1F_some hc
      unfold rtF at hc2
      split at hc2
      · cases hc2; exact frS.refl
      · cases hc2
    case return_ =>
      obtain ⟨hst, hc2⟩ := m0_some hc
      unfold rtV at hc2
      split at hc2
      · cases hc2; exact frS.refl
      · cases hc2
    all_goals
      simp only [tv_G] at hc
      obtain ⟨ls', st', σ2, e1, e2⟩ := opk_some hc
      obtain ⟨f1, f2, f3⟩ := tv_op_fr hS hl hs e1
      exact f3.trans (ih _ _ _ _ _ _ _ _ e2 f1 f2)
theorem tv_fr (hS : clS S) : ∀ n, frI S L xs n := by
  intro n
  induction n with
  | zero => intro d M pc ls st σ o σ' hc; cases hc
  | succ n ih => exact tv_frS hS ih
theorem rn_fr (hS : clS S) {r : tvO × tvS} (hr : rn L xs d M pc ls st σ = some r) (hl : okS S ls) (hs : okS S st) : frS S σ r.2 := by
  obtain ⟨n, hn⟩ := rn_to L xs hr
  exact tv_fr hS n d M pc ls st σ r.1 r.2 (hn n (Nat.le_refl n)) hl hs
end FRS
