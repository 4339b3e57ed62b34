section PV8
variable {E : pvE} {P : pvP} {p : Program} {l : Launch} {e : Env} {R : Room} {s : State} {m : MethodId} {args : Array Value} {below : List Frame} {meth : Method} {c : Code} {Q : State → Prop} {cc : ByteArray} {nL pc : Nat} {lv : pvL} {st : List Value} {h : pvH}
/-- all that a walk takes from the tables at a method's start -/
def pv_K (E : pvE) (P : pvP) (args : Array Value) (s : State) : Prop := pv_xvOK E ∧ pv_KC E P args s ∧ pv_KA E s ∧ pv_KX E P s ∧ pv_KS E P s ∧ ∃ (cS : ClassId) (kS : Class), s.vm.findClass "java/lang/String" = some cS ∧ s.vm.classes[cS]? = some kS
set_option maxHeartbeats 4000000 in
theorem pv_sim1 (hx : p.tables.exec = Jvm.exec) (hb : c.code = cc) (hml : c.maxLocals = nL) (hK : pv_K E P args s) {own : String} (hown : s.vm.findClass own = some m.cls) (hRo : 1 ≤ R.frames ∧ 60 ≤ R.locals) {M : Nat} (hnL : (pv_mi P M).2.2.1 = nL) (hini : (pv_mi P M).1 = true → meth.name = "<init>")
    {i : Instr} {len r1 r2 r3 : Nat} (hi : pv_ins P M pc = some (i, len, r1, r2, r3)) (hd : decode cc pc = .ok (i, len)) (hlen : pv_len i = none ∨ pv_len i = some len) (hOK : pv_OKi E P own pc i r1 r2 r3 args s)
    {pc' : Nat} {lv' : pvL} {st' : List Value} {h' : pvH} (hs : pv_step P M pc lv st h = some (.inl (pc', lv', st', h'))) (K : pv_Go E p l e R s m args below meth c Q nL pc' lv' st' h') : pv_Go E p l e R s m args below meth c Q nL pc lv st h := by
  obtain ⟨hxv, hKC, hKA, hKX, hKS, hSc⟩ := hK
  unfold pv_step at hs
  rw [hi] at hs
  subst hnL
  have go1 : ∀ {o : Option (List Value)} {pc1 : Nat}, pv_nx pc1 lv h o = some (.inl (pc', lv', st', h')) → ∃ st1, o = some st1 ∧ pv_Go E p l e R s m args below meth c Q (pv_mi P M).2.2.1 pc1 lv st1 h := by
    intro o pc1 e0
    obtain ⟨e1, rfl, rfl, rfl⟩ := pv_nx_inv e0
    exact ⟨_, e1, K⟩
  have go2 : ∀ {o : Option (List Value × pvH)} {pc1 : Nat}, pv_stx pc1 lv o = some (.inl (pc', lv', st', h')) → ∃ q, o = some q ∧ pv_Go E p l e R s m args below meth c Q (pv_mi P M).2.2.1 pc1 lv q.1 q.2 := by
    intro o pc1 e0
    obtain ⟨e1, rfl, rfl⟩ := pv_stx_inv e0
    exact ⟨_, e1, K⟩
  have L : ∀ {n : Nat}, pv_len i = some n → len = n := fun {n} e0 => by
    rcases hlen with h9 | h9
    · rw [e0] at h9; cases h9
    · rw [e0] at h9; cases h9; rfl
  cases i with
  | aload_n k =>
    obtain rfl := L rfl
    obtain ⟨st1, e1, K1⟩ := go1 hs
    cases hg : pv_get lv k with
    | none => rw [hg] at e1; cases e1
    | some v =>
      rw [hg] at e1
      simp only [Option.bind_some] at e1
      split at e1
      · cases e1; exact pg_aloadR hx hb hxv (Or.inr ⟨k, rfl, rfl, rfl⟩) hd hg (by assumption) K1
      · cases e1
  | aload k =>
    obtain rfl := L rfl
    obtain ⟨st1, e1, K1⟩ := go1 hs
    cases hg : pv_get lv k with
    | none => rw [hg] at e1; cases e1
    | some v =>
      rw [hg] at e1
      simp only [Option.bind_some] at e1
      split at e1
      · cases e1; exact pg_aloadR hx hb hxv (Or.inl ⟨rfl, rfl⟩) hd hg (by assumption) K1
      · cases e1
  | iload_n k =>
    obtain rfl := L rfl
    obtain ⟨st1, e1, K1⟩ := go1 hs
    cases hg : pv_get lv k with
    | none => rw [hg] at e1; cases e1
    | some v =>
      rw [hg] at e1
      simp only [Option.bind_some] at e1
      split at e1
      · cases e1; exact fun H locs cells slots ls hR hl => lv_iload_n hx hb hd rfl (pv_at hl hg) (K1 H locs cells slots ls hR hl)
      · cases e1
  | iload k =>
    obtain rfl := L rfl
    obtain ⟨st1, e1, K1⟩ := go1 hs
    cases hg : pv_get lv k with
    | none => rw [hg] at e1; cases e1
    | some v =>
      rw [hg] at e1
      simp only [Option.bind_some] at e1
      split at e1
      · cases e1; exact fun H locs cells slots ls hR hl => lv_iload hx hb hd (pv_at hl hg) (K1 H locs cells slots ls hR hl)
      · cases e1
  | lload_n k =>
    obtain rfl := L rfl
    obtain ⟨st1, e1, K1⟩ := go1 hs
    cases hg : pv_get lv k with
    | none => rw [hg] at e1; cases e1
    | some v =>
      rw [hg] at e1
      simp only [Option.bind_some] at e1
      split at e1
      · cases e1; exact fun H locs cells slots ls hR hl => lv_lload_n hx hb hd rfl (pv_at hl hg) (K1 H locs cells slots ls hR hl)
      · cases e1
  | lload k =>
    obtain rfl := L rfl
    obtain ⟨st1, e1, K1⟩ := go1 hs
    cases hg : pv_get lv k with
    | none => rw [hg] at e1; cases e1
    | some v =>
      rw [hg] at e1
      simp only [Option.bind_some] at e1
      split at e1
      · cases e1; exact fun H locs cells slots ls hR hl => lv_lload hx hb hd (pv_at hl hg) (K1 H locs cells slots ls hR hl)
      · cases e1
  | istore_n k =>
    obtain rfl := L rfl
    simp only at hs
    split at hs
    · split at hs
      · rename_i x r hq
        cases hs; exact fun H locs cells slots ls hR hl => lv_istore_n hx hb hd rfl hl hq (pv_set1_map hxv lv k (.int x)) (fun ls' hl' => K H locs cells slots ls' hR hl')
      · cases hs
    · cases hs
  | istore k =>
    obtain rfl := L rfl
    simp only at hs
    split at hs
    · split at hs
      · rename_i x r hq
        cases hs; exact fun H locs cells slots ls hR hl => lv_istore hx hb hd hl hq (pv_set1_map hxv lv k (.int x)) (fun ls' hl' => K H locs cells slots ls' hR hl')
      · cases hs
    · cases hs
  | lstore_n k =>
    obtain rfl := L rfl
    simp only at hs
    split at hs
    · split at hs
      · rename_i x r hq
        cases hs; exact fun H locs cells slots ls hR hl => lv_lstore_n hx hb hd rfl hl hq (pv_set2_map hxv lv k (.long x)) (fun ls' hl' => K H locs cells slots ls' hR hl')
      · cases hs
    · cases hs
  | lstore k =>
    obtain rfl := L rfl
    simp only at hs
    split at hs
    · split at hs
      · rename_i x r hq
        cases hs; exact fun H locs cells slots ls hR hl => lv_lstore hx hb hd hl hq (pv_set2_map hxv lv k (.long x)) (fun ls' hl' => K H locs cells slots ls' hR hl')
      · cases hs
    · cases hs
  | astore_n k =>
    obtain rfl := L rfl
    simp only at hs
    split at hs
    · split at hs
      · rename_i hq
        cases hs; exact pg_astoreR hx hb hxv (Or.inr ⟨k, rfl, rfl, rfl⟩) hd hq.1 hq.2 K
      · cases hs
    · cases hs
  | astore k =>
    obtain rfl := L rfl
    simp only at hs
    split at hs
    · split at hs
      · rename_i hq
        cases hs; exact pg_astoreR hx hb hxv (Or.inl ⟨rfl, rfl⟩) hd hq.1 hq.2 K
      · cases hs
    · cases hs
  | iinc k n =>
    obtain rfl := L rfl
    simp only at hs
    split at hs
    · split at hs
      · cases hs; exact pv_iincs hx hb hxv hd (by assumption) (by assumption) K
      · cases hs
    · cases hs
  | iconst n =>
    obtain rfl := L rfl
    cases hs; exact fun H locs cells slots ls hR hl => lv_iconst hx hb hd rfl (K H locs cells slots ls hR hl)
  | bipush n =>
    obtain rfl := L rfl
    cases hs; exact fun H locs cells slots ls hR hl => lv_bipush hx hb hd rfl (K H locs cells slots ls hR hl)
  | sipush n =>
    obtain rfl := L rfl
    cases hs; exact fun H locs cells slots ls hR hl => lv_sipush hx hb hd rfl (K H locs cells slots ls hR hl)
  | lconst n =>
    obtain rfl := L rfl
    cases hs; exact fun H locs cells slots ls hR hl => lv_lconst hx hb hd rfl (K H locs cells slots ls hR hl)
  | aconst_null =>
    obtain rfl := L rfl
    cases hs; exact fun H locs cells slots ls hR hl => lv_null hx hb hd (K H locs cells slots ls hR hl)
  | ldc idx =>
    obtain rfl := L rfl
    simp only at hs
    split at hs
    · rename_i h3
      cases hs; exact fun H locs cells slots ls hR hl => lv_ldc hx hb hown (hOK.1 h3) hd (K H locs cells slots ls hR hl)
    · rename_i h3
      obtain ⟨h4, tx, h5⟩ := hOK.2 h3
      cases hs; exact pg_ldcS hx hb hown h4 h5 hd K
  | ldc_w idx =>
    obtain rfl := L rfl
    simp only at hs
    split at hs
    · rename_i h3
      cases hs; exact fun H locs cells slots ls hR hl => lv_ldcw hx hb hown (hOK.1 h3) hd (K H locs cells slots ls hR hl)
    · rename_i h3
      obtain ⟨h4, tx, h5⟩ := hOK.2 h3
      cases hs; exact pg_ldcwS hx hb hown h4 h5 hd K
  | ldc2_w idx =>
    obtain rfl := L rfl
    cases hs; exact fun H locs cells slots ls hR hl => lv_ldc2 hx hb hown hOK hd (K H locs cells slots ls hR hl)
  | iadd =>
    obtain rfl := L rfl
    obtain ⟨st1, e1, K1⟩ := go1 hs
    obtain ⟨x, y, r, v, rfl, e2, rfl⟩ := pv_ii_inv e1
    cases e2
    exact fun H locs cells slots ls hR hl => lv_iadd hx hb hd (K1 H locs cells slots ls hR hl)
  | isub =>
    obtain rfl := L rfl
    obtain ⟨st1, e1, K1⟩ := go1 hs
    obtain ⟨x, y, r, v, rfl, e2, rfl⟩ := pv_ii_inv e1
    cases e2
    exact fun H locs cells slots ls hR hl => lv_isub hx hb hd (K1 H locs cells slots ls hR hl)
  | imul =>
    obtain rfl := L rfl
    obtain ⟨st1, e1, K1⟩ := go1 hs
    obtain ⟨x, y, r, v, rfl, e2, rfl⟩ := pv_ii_inv e1
    cases e2
    exact fun H locs cells slots ls hR hl => lv_imul hx hb hd (K1 H locs cells slots ls hR hl)
  | iand =>
    obtain rfl := L rfl
    obtain ⟨st1, e1, K1⟩ := go1 hs
    obtain ⟨x, y, r, v, rfl, e2, rfl⟩ := pv_ii_inv e1
    cases e2
    exact fun H locs cells slots ls hR hl => lv_iand hx hb hd (K1 H locs cells slots ls hR hl)
  | ior =>
    obtain rfl := L rfl
    obtain ⟨st1, e1, K1⟩ := go1 hs
    obtain ⟨x, y, r, v, rfl, e2, rfl⟩ := pv_ii_inv e1
    cases e2
    exact fun H locs cells slots ls hR hl => lv_ior hx hb hd (K1 H locs cells slots ls hR hl)
  | ishr =>
    obtain rfl := L rfl
    obtain ⟨st1, e1, K1⟩ := go1 hs
    obtain ⟨x, y, r, v, rfl, e2, rfl⟩ := pv_ii_inv e1
    cases e2
    exact fun H locs cells slots ls hR hl => lv_ishr hx hb hd (K1 H locs cells slots ls hR hl)
  | ladd =>
    obtain rfl := L rfl
    obtain ⟨st1, e1, K1⟩ := go1 hs
    obtain ⟨x, y, r, v, rfl, e2, rfl⟩ := pv_ll_inv e1
    cases e2
    exact fun H locs cells slots ls hR hl => lv_ladd hx hb hd (K1 H locs cells slots ls hR hl)
  | lsub =>
    obtain rfl := L rfl
    obtain ⟨st1, e1, K1⟩ := go1 hs
    obtain ⟨x, y, r, v, rfl, e2, rfl⟩ := pv_ll_inv e1
    cases e2
    exact fun H locs cells slots ls hR hl => lv_lsub hx hb hd (K1 H locs cells slots ls hR hl)
  | lmul =>
    obtain rfl := L rfl
    obtain ⟨st1, e1, K1⟩ := go1 hs
    obtain ⟨x, y, r, v, rfl, e2, rfl⟩ := pv_ll_inv e1
    cases e2
    exact fun H locs cells slots ls hR hl => lv_lmul hx hb hd (K1 H locs cells slots ls hR hl)
  | land =>
    obtain rfl := L rfl
    obtain ⟨st1, e1, K1⟩ := go1 hs
    obtain ⟨x, y, r, v, rfl, e2, rfl⟩ := pv_ll_inv e1
    cases e2
    exact fun H locs cells slots ls hR hl => lv_land hx hb hd (K1 H locs cells slots ls hR hl)
  | lor =>
    obtain rfl := L rfl
    obtain ⟨st1, e1, K1⟩ := go1 hs
    obtain ⟨x, y, r, v, rfl, e2, rfl⟩ := pv_ll_inv e1
    cases e2
    exact fun H locs cells slots ls hR hl => lv_lor hx hb hd (K1 H locs cells slots ls hR hl)
  | lcmp =>
    obtain rfl := L rfl
    obtain ⟨st1, e1, K1⟩ := go1 hs
    obtain ⟨x, y, r, v, rfl, e2, rfl⟩ := pv_ll_inv e1
    cases e2
    exact fun H locs cells slots ls hR hl => W.lcmp hx hb hd (K1 H locs cells slots ls hR hl)
  | lshl =>
    obtain rfl := L rfl
    obtain ⟨st1, e1, K1⟩ := go1 hs
    obtain ⟨x, y, r, v, rfl, e2, rfl⟩ := pv_li_inv e1
    cases e2
    exact fun H locs cells slots ls hR hl => lv_lshl hx hb hd rfl (K1 H locs cells slots ls hR hl)
  | lshr =>
    obtain rfl := L rfl
    obtain ⟨st1, e1, K1⟩ := go1 hs
    obtain ⟨x, y, r, v, rfl, e2, rfl⟩ := pv_li_inv e1
    cases e2
    exact fun H locs cells slots ls hR hl => lv_lshr hx hb hd rfl (K1 H locs cells slots ls hR hl)
  | lushr =>
    obtain rfl := L rfl
    obtain ⟨st1, e1, K1⟩ := go1 hs
    obtain ⟨x, y, r, v, rfl, e2, rfl⟩ := pv_li_inv e1
    cases e2
    exact fun H locs cells slots ls hR hl => lv_lushr hx hb hd rfl (K1 H locs cells slots ls hR hl)
  | lneg =>
    obtain rfl := L rfl
    obtain ⟨st1, e1, K1⟩ := go1 hs
    obtain ⟨x, r, v, rfl, e2, rfl⟩ := pv_l_inv e1
    cases e2
    exact fun H locs cells slots ls hR hl => lv_lneg hx hb hd (K1 H locs cells slots ls hR hl)
  | l2i =>
    obtain rfl := L rfl
    obtain ⟨st1, e1, K1⟩ := go1 hs
    obtain ⟨x, r, v, rfl, e2, rfl⟩ := pv_l_inv e1
    cases e2
    exact fun H locs cells slots ls hR hl => lv_l2i hx hb hd rfl (K1 H locs cells slots ls hR hl)
  | i2l =>
    obtain rfl := L rfl
    obtain ⟨st1, e1, K1⟩ := go1 hs
    obtain ⟨x, r, v, rfl, e2, rfl⟩ := pv_i_inv e1
    cases e2
    exact fun H locs cells slots ls hR hl => lv_i2l hx hb hd rfl (K1 H locs cells slots ls hR hl)
  | i2b =>
    obtain rfl := L rfl
    obtain ⟨st1, e1, K1⟩ := go1 hs
    obtain ⟨x, r, v, rfl, e2, rfl⟩ := pv_i_inv e1
    cases e2
    exact fun H locs cells slots ls hR hl => lv_i2b hx hb hd rfl (K1 H locs cells slots ls hR hl)
  | i2c =>
    obtain rfl := L rfl
    obtain ⟨st1, e1, K1⟩ := go1 hs
    obtain ⟨x, r, v, rfl, e2, rfl⟩ := pv_i_inv e1
    cases e2
    exact fun H locs cells slots ls hR hl => lv_i2c hx hb hd rfl (K1 H locs cells slots ls hR hl)
  | idiv =>
    obtain rfl := L rfl
    obtain ⟨st1, e1, K1⟩ := go1 hs
    obtain ⟨x, y, r, v, rfl, e2, rfl⟩ := pv_ii_inv e1
    split at e2
    · cases e2
    · cases e2
      exact fun H locs cells slots ls hR hl => lv_idiv hx hb hd (by assumption) (K1 H locs cells slots ls hR hl)
  | irem =>
    obtain rfl := L rfl
    obtain ⟨st1, e1, K1⟩ := go1 hs
    obtain ⟨x, y, r, v, rfl, e2, rfl⟩ := pv_ii_inv e1
    split at e2
    · cases e2
    · cases e2
      exact fun H locs cells slots ls hR hl => lv_irem hx hb hd (by assumption) (K1 H locs cells slots ls hR hl)
  | ldiv =>
    obtain rfl := L rfl
    obtain ⟨st1, e1, K1⟩ := go1 hs
    obtain ⟨x, y, r, v, rfl, e2, rfl⟩ := pv_ll_inv e1
    split at e2
    · cases e2
    · cases e2
      exact fun H locs cells slots ls hR hl => lv_ldiv hx hb hd (by assumption) (K1 H locs cells slots ls hR hl)
  | lrem =>
    obtain rfl := L rfl
    obtain ⟨st1, e1, K1⟩ := go1 hs
    obtain ⟨x, y, r, v, rfl, e2, rfl⟩ := pv_ll_inv e1
    split at e2
    · cases e2
    · cases e2
      exact fun H locs cells slots ls hR hl => lv_lrem hx hb hd (by assumption) (K1 H locs cells slots ls hR hl)
  | dup =>
    obtain rfl := L rfl
    simp only at hs
    split at hs
    · split at hs
      · rename_i hq
        cases hs; exact fun H locs cells slots ls hR hl => lv_dup hx hb hd (by rw [pv_im_cat hxv]; exact hq) (K H locs cells slots ls hR hl)
      · cases hs
    · cases hs
  | pop =>
    obtain rfl := L rfl
    simp only at hs
    split at hs
    · split at hs
      · rename_i hq
        cases hs; exact fun H locs cells slots ls hR hl => lv_pop hx hb hd (by rw [pv_im_cat hxv]; exact hq) (K H locs cells slots ls hR hl)
      · cases hs
    · cases hs
  | dup2 =>
    obtain rfl := L rfl
    obtain ⟨st1, e1, K1⟩ := go1 hs
    unfold pv_dup2 at e1
    split at e1
    · split at e1
      · rename_i hq
        cases e1
        exact fun H locs cells slots ls hR hl => lv_dup2_11 hx hb hd rfl (by rw [pv_im_cat hxv]; exact hq) (K1 H locs cells slots ls hR hl)
      · cases e1
    · cases e1
      exact fun H locs cells slots ls hR hl => lv_dup2_2 hx hb hd rfl (K1 H locs cells slots ls hR hl)
    · cases e1
  | ifCond cd off =>
    obtain rfl := L rfl
    simp only at hs
    split at hs
    · rename_i x r
      cases hs
      intro H locs cells slots ls hR hl
      have K2 := K H locs cells slots ls hR hl
      cases cd
      · refine lv_if_eq hx hb hd hOK (fun q => ?_) (fun q => ?_) <;> simpa [pv_c1, q] using K2
      · refine lv_if_ne hx hb hd hOK (fun q => ?_) (fun q => ?_) <;> simpa [pv_c1, q] using K2
      · refine lv_if_lt hx hb hd hOK (fun q => ?_) (fun q => ?_) <;> simpa [pv_c1, q] using K2
      · refine lv_if_ge hx hb hd hOK (fun q => ?_) (fun q => ?_) <;> simpa [pv_c1, q] using K2
      · refine lv_if_gt hx hb hd hOK (fun q => ?_) (fun q => ?_) <;> simpa [pv_c1, q] using K2
      · refine lv_if_le hx hb hd hOK (fun q => ?_) (fun q => ?_) <;> simpa [pv_c1, q] using K2
    · cases hs
  | if_icmp cd off =>
    obtain rfl := L rfl
    simp only at hs
    split at hs
    · rename_i y x r
      cases hs
      intro H locs cells slots ls hR hl
      have K2 := K H locs cells slots ls hR hl
      cases cd
      · refine lv_icmp_eq hx hb hd hOK (fun q => ?_) (fun q => ?_) <;> simpa [pv_c2, q] using K2
      · refine lv_icmp_ne hx hb hd hOK (fun q => ?_) (fun q => ?_) <;> simpa [pv_c2, q] using K2
      · refine lv_icmp_lt hx hb hd hOK (fun q => ?_) (fun q => ?_) <;> simpa [pv_c2, q] using K2
      · refine lv_icmp_ge hx hb hd hOK (fun q => ?_) (fun q => ?_) <;> simpa [pv_c2, q] using K2
      · refine lv_icmp_gt hx hb hd hOK (fun q => ?_) (fun q => ?_) <;> simpa [pv_c2, q] using K2
      · refine lv_icmp_le hx hb hd hOK (fun q => ?_) (fun q => ?_) <;> simpa [pv_c2, q] using K2
    · cases hs
  | goto off =>
    obtain rfl := L rfl
    cases hs
    exact fun H locs cells slots ls hR hl => lv_goto hx hb hd hOK (K H locs cells slots ls hR hl)
  | tableswitch dflt lo hi2 offs =>
    simp only at hs
    split at hs
    · rename_i x r
      split at hs
      · rename_i hq
        unfold pv_goI at hs
        split at hs
        · rename_i h0
          cases hs
          exact fun H locs cells slots ls hR hl => lv_tableOut hx hb hd hq (by omega) (K H locs cells slots ls hR hl)
        · cases hs
      · rename_i hq
        split at hs
        · rename_i off ho
          unfold pv_goI at hs
          split at hs
          · rename_i h0
            cases hs
            exact fun H locs cells slots ls hR hl => lv_tableIn hx hb hd (fun z => hq (Or.inl z)) (fun z => hq (Or.inr z)) ho (by omega) (K H locs cells slots ls hR hl)
          · cases hs
        · cases hs
    · cases hs
  | lookupswitch dflt ps =>
    simp only at hs
    split at hs
    · rename_i x r
      split at hs
      · rename_i hq
        unfold pv_goI at hs
        split at hs
        · rename_i h0
          cases hs
          exact fun H locs cells slots ls hR hl => lv_lookup hx hb hd hq rfl (by omega) (K H locs cells slots ls hR hl)
        · cases hs
      · cases hs
    · cases hs
  | getfield idx =>
    obtain rfl := L rfl
    obtain ⟨st1, e1, K1⟩ := go1 hs
    unfold pv_fld at e1
    split at e1
    · split at e1
      · rename_i hq
        cases e1
        rcases hOK with ⟨h90, -, hn⟩ | ⟨-, hf⟩
        · subst h90
          intro H locs cells slots ls hR hl
          obtain ⟨r, hr, -⟩ := (hR.2.1 _ hq.2.1).obj hq.1 (by omega)
          rw [hn] at hr; cases hr
        · exact pg_getf hx hb hKC hown hf hd hq K1
      · cases e1
    · rename_i j r
      split at e1
      · rename_i hq
        obtain ⟨o1, o2, o3⟩ := hKS j.toNat hq.2
        rcases hOK with ⟨h90, hlk, hn⟩ | ⟨h90, -⟩
        · split at e1
          · rename_i h0
            cases e1
            rcases hlk with ⟨-, hlk⟩ | ⟨h1, -⟩
            · exact pg_getS hx hb (v := .retAddr (j.toNat + 1)) hown o3 hlk hd K1
            · omega
          · split at e1
            · rename_i h0 h1
              cases e1
              rcases hlk with ⟨h2, -⟩ | ⟨-, hlk⟩
              · omega
              · exact pg_getS hx hb (v := .int 0) hown o2 hlk hd K1
            · cases e1
        · exact absurd hq.1 h90
      · cases e1
    · cases e1
  | putfield idx =>
    obtain rfl := L rfl
    obtain ⟨q, e1, K1⟩ := go2 hs
    unfold pv_pfld at e1
    split at e1
    · split at e1
      · rename_i hq
        cases e1
        refine pg_putf hx hb hxv hKC hown hOK.1 hd hq.1 hq.2.1 ?_ K1
        rcases hOK.2 with h9 | ⟨h9, h10⟩
        · exact Or.inl h9
        · rcases hq.2.2 with h11 | h11
          · exact Or.inl h11
          · exact Or.inr ⟨h9, hini h11, h10⟩
      · cases e1
    · cases e1
  | getstatic idx =>
    obtain rfl := L rfl
    obtain ⟨C, n, d, hlk, hz1, hz2⟩ := hOK
    simp only at hs
    split at hs
    · rename_i h3
      cases hs
      exact pg_gets hx hb (v := .int (Int32.ofNat r1)) hown (hz1 h3) hlk hd K
    · rename_i h3
      cases hs
      exact pg_gets hx hb (v := .retAddr r1) hown (hz2 h3) hlk hd K
  | iaload =>
    obtain rfl := L rfl
    obtain ⟨st1, e1, K1⟩ := go1 hs
    unfold pv_ld at e1
    split at e1
    · split at e1
      · rename_i hq
        cases e1
        exact pg_ld hx hb hKA (Or.inl ⟨rfl, rfl⟩) hd hq K1
      · cases e1
    · split at e1
      · rename_i hq
        cases e1
        exact pg_ldx hx hb hKX (Or.inl ⟨rfl, rfl⟩) hd hq K1
      · cases e1
    · cases e1
  | baload =>
    obtain rfl := L rfl
    obtain ⟨st1, e1, K1⟩ := go1 hs
    split at e1
    · unfold pv_ld at e1
      split at e1
      · split at e1
        · rename_i hq
          cases e1
          exact pg_ld hx hb hKA (Or.inr (Or.inl ⟨rfl, rfl⟩)) hd hq K1
        · cases e1
      · split at e1
        · rename_i hq
          cases e1
          exact pg_ldx hx hb hKX (Or.inr ⟨rfl, rfl⟩) hd hq K1
        · cases e1
      · cases e1
    · unfold pv_ldo at e1
      split at e1
      · split at e1
        · rename_i hq
          cases e1
          exact pg_ld hx hb hKA (Or.inr (Or.inr (Or.inr (Or.inl ⟨rfl, rfl⟩)))) hd hq K1
        · cases e1
      · cases e1
  | laload =>
    obtain rfl := L rfl
    obtain ⟨st1, e1, K1⟩ := go1 hs
    unfold pv_ldo at e1
    split at e1
    · split at e1
      · rename_i hq
        cases e1
        exact pg_ld hx hb hKA (Or.inr (Or.inr (Or.inl ⟨rfl, rfl⟩))) hd hq K1
      · cases e1
    · cases e1
  | aaload =>
    obtain rfl := L rfl
    obtain ⟨st1, e1, K1⟩ := go1 hs
    unfold pv_ldo at e1
    split at e1
    · split at e1
      · rename_i hq
        cases e1
        exact pg_ld hx hb hKA (Or.inr (Or.inr (Or.inr (Or.inr ⟨rfl, rfl⟩)))) hd hq K1
      · cases e1
    · cases e1
  | iastore =>
    obtain rfl := L rfl
    obtain ⟨q, e1, K1⟩ := go2 hs
    unfold pv_st at e1
    split at e1
    · split at e1
      · rename_i v i2 k2 r2 hq
        cases v <;> first | cases e1 | skip
        exact pg_st hx hb hKA (Or.inl ⟨rfl, rfl, _, rfl, rfl⟩) hd hq K1
      · cases e1
    · cases e1
  | lastore =>
    obtain rfl := L rfl
    obtain ⟨q, e1, K1⟩ := go2 hs
    unfold pv_st at e1
    split at e1
    · split at e1
      · rename_i v i2 k2 r2 hq
        cases v <;> first | cases e1 | skip
        exact pg_st hx hb hKA (Or.inr (Or.inr (Or.inl ⟨rfl, rfl, _, rfl, rfl⟩))) hd hq K1
      · cases e1
    · cases e1
  | bastore =>
    obtain rfl := L rfl
    simp only at hs
    split at hs
    · skip
      obtain ⟨q, e1, K1⟩ := go2 hs
      unfold pv_st at e1
      split at e1
      · split at e1
        · rename_i v i2 k2 r2 hq
          cases v <;> first | cases e1 | skip
          exact pg_st hx hb hKA (Or.inr (Or.inl ⟨rfl, rfl, _, rfl, rfl⟩)) hd hq K1
        · cases e1
      · cases e1
    · skip
      obtain ⟨q, e1, K1⟩ := go2 hs
      unfold pv_st at e1
      split at e1
      · split at e1
        · rename_i v i2 k2 r2 hq
          cases v <;> first | cases e1 | skip
          exact pg_st hx hb hKA (Or.inr (Or.inr (Or.inr ⟨rfl, rfl, _, rfl, rfl⟩))) hd hq K1
        · cases e1
      · cases e1
  | aastore =>
    obtain rfl := L rfl
    obtain ⟨q, e1, K1⟩ := go2 hs
    unfold pv_st at e1
    split at e1
    · split at e1
      · rename_i v i2 k2 r2 hq
        cases v with
        | float j =>
          simp only at e1
          split at e1
          · rename_i hj
            cases e1
            exact pg_aast hx hb hKA hKS hSc hj hd hq K1
          · cases e1
        | _ => cases e1
      · cases e1
    · cases e1
  | arraylength =>
    obtain rfl := L rfl
    simp only at hs
    split at hs
    · split at hs
      · rename_i hq
        cases hs
        exact pg_len hx hb hKA hd hq K
      · cases hs
    · split at hs
      · rename_i hq
        cases hs
        exact pg_lenx hx hb hKX hd hq K
      · cases hs
    · cases hs
  | new idx =>
    obtain rfl := L rfl
    simp only [pv_alloc] at hs
    split at hs
    · split at hs <;> cases hs
    · rename_i h4
      obtain ⟨r, hr, h990, hfl, hk1, hk2, hk3⟩ := hOK h4
      split at hs
      · rename_i hq
        cases hs
        exact pg_new hx hb hKC hown hr h990 hfl hk1 hk2 hk3 hd hq K
      · cases hs
  | newarray a =>
    obtain rfl := L rfl
    simp only [pv_alloc] at hs
    split at hs
    · rename_i n r t v ha
      split at hs
      · rename_i hn
        split at hs
        · rename_i hq
          cases hs
          exact pg_newa hx hb hKA ha hOK hd hn hq K
        · cases hs
      · cases hs
    · cases hs
  | anewarray idx =>
    obtain rfl := L rfl
    simp only [pv_alloc] at hs
    split at hs
    · split at hs
      · rename_i hn
        split at hs
        · rename_i hq
          cases hs
          exact pg_anew hx hb hKA hown hOK.1 hOK.2 hd hn hq K
        · cases hs
      · cases hs
    · cases hs
  | invokestatic idx =>
    obtain rfl := L rfl
    simp only at hs
    split at hs
    · unfold pv_call at hs
      split at hs <;> cases hs
    · rename_i h3
      obtain ⟨k1, k2, k3, k4⟩ := hOK h3
      obtain ⟨q, e1, K1⟩ := go2 hs
      unfold pv_copy at e1
      split at e1
      · split at e1
        · rename_i hq
          cases e1
          exact pg_copy hx hb hxv hml hKA hown k1 k2 k3 k4 hRo hd hq.1 hq.2 K1
        · cases e1
      · cases e1
  | invokespecial idx =>
    obtain rfl := L rfl
    simp only at hs
    split at hs
    · rename_i h3
      obtain ⟨k1, k2, k3⟩ := hOK h3
      split at hs
      · split at hs
        · rename_i hq
          cases hs
          exact pg_oinit hx hb hxv hml hown k1 k2 k3 hRo hd hq K
        · cases hs
      · cases hs
    · split at hs
      · unfold pv_call at hs
        split at hs <;> cases hs
      · cases hs
  | ifnull off =>
    obtain rfl := L rfl
    simp only at hs
    split at hs
    · cases hs
      exact fun H locs cells slots ls hR hl => lv_ifnull hx hb hd (K H locs cells slots ls hR hl)
    · cases hs
      exact fun H locs cells slots ls hR hl => lv_ifnullN hx hb hd hOK (K H locs cells slots ls hR hl)
    · cases hs
  | invokevirtual idx =>
    simp only [pv_call] at hs
    split at hs
    · split at hs <;> cases hs
    · cases hs
  | ireturn =>
    simp only [pv_ret] at hs
    split at hs
    · split at hs <;> cases hs
    · cases hs
  | lreturn =>
    simp only at hs
    split at hs <;> cases hs
  | areturn =>
    simp only at hs
    split at hs
    · split at hs <;> cases hs
    · cases hs
  | return_ =>
    simp only at hs
    split at hs <;> cases hs
  | _ => cases hs
end PV8
