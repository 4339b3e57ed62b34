/-! CALLS -/
section PV12
variable {E : pvE} {P : pvP} {G : pvG} {p : Program} {l : Launch} {e : Env} {R : Room} {s : State} {m : MethodId} {args : Array Value} {below : List Frame} {meth : Method} {c : Code}
theorem pv_call_inv {M pc : Nat} {lv : pvL} {st : List Value} {h : pvH} {i : Instr} {len r1 r2 r3 : Nat} (hi : pv_ins P M pc = some (i, len, r1, r2, r3)) {M' : Nat} {av rest : List Value} {pc' : Nat} {h1 : pvH} (hs : pv_step P M pc lv st h = some (.inr (.inl (M', av, rest, pc', h1)))) :
    (M' = r1 ∧ r2 ≤ st.length ∧ (rest.map Value.category).sum ≤ 24 ∧ (av.map Value.category).sum ≤ (pv_mi P r1).2.2.1 ∧ av = (st.take r2).reverse ∧ rest = st.drop r2 ∧ pc' = pc + 3 ∧ h1 = h) ∧
    ((∃ idx, i = .invokevirtual idx ∧ pv_recv P r3 st[r2 - 1]? h = true ∧ 1 ≤ r2) ∨ (∃ idx, i = .invokestatic idx ∧ r3 = 0) ∨ (∃ idx, i = .invokespecial idx ∧ r3 ≠ 2 ∧ pv_recvI st[r2 - 1]? = true ∧ 1 ≤ r2)) := by
  unfold pv_step at hs
  rw [hi] at hs
  have nx : ∀ {o1 : Option (List Value)} {pc1 : Nat}, ¬ pv_nx pc1 lv h o1 = some (.inr (.inl (M', av, rest, pc', h1))) := by
    intro o1 pc1 e0
    unfold pv_nx at e0
    cases o1 <;> cases e0
  have sx : ∀ {o1 : Option (List Value × pvH)} {pc1 : Nat}, ¬ pv_stx pc1 lv o1 = some (.inr (.inl (M', av, rest, pc', h1))) := by
    intro o1 pc1 e0
    unfold pv_stx at e0
    cases o1 <;> cases e0
  have gx : ∀ {st1 : List Value} {pc1 : Int}, ¬ pv_goI pc1 lv st1 h = some (.inr (.inl (M', av, rest, pc', h1))) := by
    intro st1 pc1 e0
    unfold pv_goI at e0
    split at e0 <;> cases e0
  have ax : ∀ {c1 : pvC} {st1 : List Value} {pc1 : Nat}, ¬ pv_alloc h c1 pc1 lv st1 = some (.inr (.inl (M', av, rest, pc', h1))) := by
    intro c1 st1 pc1 e0
    unfold pv_alloc at e0
    split at e0 <;> cases e0
  have cx : pv_call P r1 r2 (pc + 3) st h = some (.inr (.inl (M', av, rest, pc', h1))) → (M' = r1 ∧ r2 ≤ st.length ∧ (rest.map Value.category).sum ≤ 24 ∧ (av.map Value.category).sum ≤ (pv_mi P r1).2.2.1 ∧ av = (st.take r2).reverse ∧ rest = st.drop r2 ∧ pc' = pc + 3 ∧ h1 = h) := by
    intro e0
    unfold pv_call at e0
    split at e0
    · rename_i hq
      cases e0
      refine ⟨rfl, hq.1, hq.2.1, ?_, rfl, rfl, rfl, rfl⟩
      rw [List.map_reverse, List.sum_reverse]
      exact hq.2.2
    · cases e0
  cases i with
  | ireturn =>
    simp only [pv_ret] at hs
    split at hs
    · split at hs <;> cases hs
    · cases hs
  | lreturn =>
    simp only at hs
    split at hs <;> cases hs
  | areturn =>
    simp only at hs
    split at hs
    · split at hs <;> cases hs
    · cases hs
  | return_ =>
    simp only at hs
    split at hs <;> cases hs
  | new idx =>
    simp only at hs
    split at hs
    · split at hs <;> cases hs
    · exact absurd hs ax
  | invokespecial idx =>
    simp only at hs
    split at hs
    · split at hs
      · split at hs <;> cases hs
      · cases hs
    · split at hs
      · rename_i h2 hq
        exact ⟨cx hs, Or.inr (Or.inr ⟨idx, rfl, h2, hq.1, hq.2⟩)⟩
      · cases hs
  | invokestatic idx =>
    simp only at hs
    split at hs
    · rename_i hq
      exact ⟨cx hs, Or.inr (Or.inl ⟨idx, rfl, hq⟩)⟩
    · exact absurd hs sx
  | invokevirtual idx =>
    simp only at hs
    split at hs
    · rename_i hq
      exact ⟨cx hs, Or.inl ⟨idx, rfl, hq.1, hq.2⟩⟩
    · cases hs
  | _ => first
    | exact absurd hs nx
    | exact absurd hs sx
    | exact absurd hs ax
    | (simp only at hs; first | exact absurd hs gx | (split at hs <;> first | exact absurd hs sx | cases hs | (split at hs <;> first | exact absurd hs gx | exact absurd hs ax | cases hs | (split at hs <;> first | exact absurd hs gx | exact absurd hs ax | cases hs))))
    | cases hs
theorem pv_split {st : List Value} {n : Nat} (hn : 1 ≤ n) (hl : n ≤ st.length) {v : Value} (hv : st[n - 1]? = some v) : ∃ as, (st.take n).reverse = v :: as ∧ as.length = n - 1 ∧ st = as.reverse ++ v :: st.drop n := by
  refine ⟨(st.take (n - 1)).reverse, ?_, ?_, ?_⟩
  · have : st.take n = st.take (n - 1) ++ [v] := by
      have h1 : n = (n - 1) + 1 := by omega
      rw [h1, List.take_succ, Nat.add_sub_cancel, hv]
      rfl
    rw [this, List.reverse_append]
    rfl
  · rw [List.length_reverse, List.length_take]
    omega
  · rw [List.reverse_reverse]
    have h1 : n = (n - 1) + 1 := by omega
    conv => lhs; rw [← List.take_append_drop (n - 1) st]
    congr 1
    have hlt : n - 1 < st.length := by omega
    rw [List.drop_eq_getElem_cons hlt]
    rw [List.getElem?_eq_getElem hlt] at hv
    rw [Option.some.inj hv]
    congr 1
    rw [← h1]
/-- the call's own step: from the invoking instruction to the callee's entry -/
theorem pv_callTo {T : State} {locs : List Loc} {cells slots : Nat} (X : Stand p l e R s m args below meth c T locs cells slots) (hx : p.tables.exec = Jvm.exec) {own : String} (hown : s.vm.findClass own = some m.cls) (hK : pv_K E P args s)
    {i : Instr} {len r1 r2 r3 pc : Nat} {ls : Array Slot} {st : List Value} {h : pvH} (hR : pv_Rel E R h T.heap locs cells slots) (hOK : pv_OKc E G own i r1 r2 r3 args s) (hM : pv_MOK E P G r1 args s) (hd : decode c.code pc = .ok (i, 3)) (hl : r2 ≤ st.length)
    (hk : (∃ idx, i = .invokevirtual idx ∧ pv_recv P r3 st[r2 - 1]? h = true ∧ 1 ≤ r2) ∨ (∃ idx, i = .invokestatic idx ∧ r3 = 0) ∨ (∃ idx, i = .invokespecial idx ∧ r3 ≠ 2 ∧ pv_recvI st[r2 - 1]? = true ∧ 1 ≤ r2)) (hret : ∀ idx, i = .invokespecial idx → (pv_mi P r1).2.1 = none) :
    ∃ (mk : MethodId) (vm₁ : Vm), s.methodNamed? (G r1).1 = some mk ∧ Stand p l e R s m args below meth c (T.setVm vm₁) locs cells slots ∧
      ∀ target, (∀ acts, Steps p.tables e below (doInvoke e ((T.setVm vm₁).setTop (F0 m pc ls ((st.drop r2).map (pv_im E)))) acts mk (((st.take r2).reverse).map (pv_im E)).toArray).1 target) → Steps p.tables e below (T.setTop (F0 m pc ls (st.map (pv_im E)))) target := by
  obtain ⟨hpn, hnm, hcode, hinit, -⟩ := hM
  obtain ⟨mk, methM, cM, hnamed, hmethM, hcM, hbM, hlM, hhM, hrM, hlocksM, hsigM⟩ := Cond.codeWith_spec hcode
  obtain ⟨kP, hkP, -⟩ := className_of_methodNamed hnamed
  rcases hk with ⟨idx, rfl, hrv, h1⟩ | ⟨idx, rfl, rfl⟩ | ⟨idx, rfl, h2, hrv, h1⟩
  · obtain ⟨hna, hlink, hinst, hsel⟩ := hOK
    obtain ⟨mk', methM', hnamed', hmethM', hstM, habM⟩ := Cond.instanceMethod_spec hinst
    cases hnamed.symm.trans hnamed'
    cases hmethM.symm.trans hmethM'
    have key : ∃ (b : Addr) (cellB : Cell) (C : String) (v : Value), st[r2 - 1]? = some v ∧ pv_im E v = .ref b ∧ T.heap[b]? = some cellB ∧ cellB.vm.isStatics = false ∧ s.vm.findClass C = some cellB.cls ∧ (Jvm.Cond.selects C (G r1).1 (G r1).1).before args s = true := by
      obtain ⟨hxv, hKC, hKA, hKX, hKS, hSc⟩ := hK
      cases hv : st[r2 - 1]? with
      | none => rw [hv] at hrv; cases hrv
      | some v =>
        rw [hv] at hrv
        cases v with
        | ref k =>
          simp only [pv_recv, decide_eq_true_eq] at hrv
          rcases hsel with ⟨h90, -, hn⟩ | ⟨h90, r, hr, hsel⟩
          · obtain ⟨r, hr, -⟩ := (hR.2.1 k hrv.2).obj hrv.1 (by omega)
            rw [h90, hn] at hr; cases hr
          · obtain ⟨r', hr', hN, cell, q1, q2, q3, q4⟩ := (hR.2.1 k hrv.2).obj hrv.1 (by omega)
            cases hr.symm.trans hr'
            exact ⟨_, cell, r.1, _, rfl, rfl, q1, by rw [q3]; rfl, by rw [q2]; exact (hKC r3 r hr).1.2.1, hsel⟩
        | float j =>
          simp only [pv_recv, decide_eq_true_eq] at hrv
          rcases hsel with ⟨h90, hsel, hn⟩ | ⟨h90, -⟩
          · obtain ⟨⟨cv, o1, o2, o3, o4⟩, -⟩ := hKS j.toNat hrv.2
            have o4' : pv_sa E j.toNat < pv_B E := Nat.not_le.mp o4
            exact ⟨_, cv, "java/lang/String", _, rfl, rfl, (hR.2.2.1 _ o4').trans o1, o2, o3, hsel⟩
          · omega
        | _ => cases hrv
    obtain ⟨b, cellB, C, v, hv, him, hcell, hobj, hcls, hsel⟩ := key
    obtain ⟨c2, r2', m2, q1, q2, q3, q4, kP', hkP', hkPi⟩ := Cond.selects_spec hsel
    cases hcls.symm.trans q1
    cases (State.methodFound?_of_named hnamed hnm).symm.trans q2
    cases hnamed.symm.trans q3
    cases hkP.symm.trans hkP'
    have hselP : selectMethod e.platform s.vm cellB.cls mk = .method mk := by rw [Launch.admits_selectMethod X.admits]; exact q4
    obtain ⟨as, ha1, ha2, ha3⟩ := pv_split h1 hl hv
    have hstk : (st.map (pv_im E)) = (as.map (pv_im E)).reverse ++ .ref b :: (st.drop r2).map (pv_im E) := by
      conv => lhs; rw [ha3]
      rw [List.map_append, List.map_reverse, List.map_cons, him]
    obtain ⟨vm₁, X₁, hstep₁⟩ := X.invokevirtual hx hown hlink hnamed hmethM hstM hkP hkPi hnm (a := b) (cell := cellB) hcell
      (fun z h => by rw [h] at hobj; cases hobj) hselP hmethM habM hkP hkPi (g := F0 m pc ls (st.map (pv_im E))) rfl (argsL := as.map (pv_im E)) (rest := (st.drop r2).map (pv_im E)) (by rw [List.length_map, ha2]; exact hna _ hsigM) hstk hd
    refine ⟨mk, vm₁, hnamed, X₁, fun target ht => hstep₁ target fun acts => ?_⟩
    have := ht acts
    rw [ha1, List.map_cons, him] at this
    exact this
  · obtain ⟨hna, hlink, hstat⟩ := hOK rfl
    have hstatic : methM.isStatic = true := Cond.static_spec hnamed hmethM hstat
    have hinitP : kP.init = .initialized := Cond.initialized_spec (findClass_of_methodNamed hnamed) hkP hinit
    have hstk : (st.map (pv_im E)) = (((st.take r2).reverse).map (pv_im E)).reverse ++ (st.drop r2).map (pv_im E) := by
      rw [List.map_reverse, List.reverse_reverse, ← List.map_append, List.take_append_drop]
    obtain ⟨vm₁, X₁, hstep₁⟩ := X.invokestatic hx hown hlink hnamed hmethM hstatic hkP hinitP hnm (g := F0 m pc ls (st.map (pv_im E))) rfl (argsL := ((st.take r2).reverse).map (pv_im E)) (rest := (st.drop r2).map (pv_im E)) (by rw [List.length_map, List.length_reverse, List.length_take, Nat.min_eq_left hl]; exact hna _ hsigM) hstk hd
    exact ⟨mk, vm₁, hnamed, X₁, hstep₁⟩
  · obtain ⟨hna, hnm2, hnh, hinst, hlk⟩ := hOK h2
    have hpl : e.platform.magicAccessors = ({} : Platform).magicAccessors := by rw [X.admits.platform]
    obtain ⟨b, hv⟩ : ∃ b, st[r2 - 1]? = some (.ref b) := by
      cases hv : st[r2 - 1]? with
      | none => rw [hv] at hrv; cases hrv
      | some v =>
        rw [hv] at hrv
        cases v with
        | ref k => exact ⟨k, rfl⟩
        | _ => cases hrv
    obtain ⟨as, ha1, ha2, ha3⟩ := pv_split h1 hl hv
    have hstk : (st.map (pv_im E)) = (as.map (pv_im E)).reverse ++ .ref (pv_B E + b) :: (st.drop r2).map (pv_im E) := by
      conv => lhs; rw [ha3]
      rw [List.map_append, List.map_reverse, List.map_cons]
      rfl
    have hcode2 : (Jvm.Cond.code (G r1).1 (G r1).2.1 (pv_mi P r1).2.2.1 none).before args s = true := by
      rw [hnh, hret _ rfl] at hcode
      have := Cond.code_iff_codeWith_nil (x := (G r1).1) (bytes := (G r1).2.1) (maxLocals := (pv_mi P r1).2.2.1) (ret := none) (args := args) (first := s) (o := none) (s := s) (idx := [])
      simp only [Cond.before, Cond.holds] at hcode ⊢
      rw [this]
      exact hcode
    have hlen9 : ∀ sig, parseMethodDescriptor (G r1).1.desc = some sig → (as.map (pv_im E)).length = sig.parameters.length := fun sig h9 => by rw [List.length_map, ha2]; exact hna _ h9
    rcases hlk with ⟨-, hlink⟩ | ⟨-, host, hlink⟩
    · obtain ⟨mk', methM', cM', kP', vm₁, hnamed', -, -, -, -, -, -, -, hW₁, hstep₁⟩ := Steps.initColdArgs (e := e) X.here hx X.warmed hpl hown hnm2 hnm hlink hinst hcode2 (f := F0 m pc ls (st.map (pv_im E))) rfl hlen9 hstk hd
      refine ⟨mk', vm₁, hnamed', X.noted hW₁, fun target ht => hstep₁ target fun acts => ?_⟩
      have := ht acts
      rw [ha1, List.map_cons] at this
      exact this
    · obtain ⟨mk', methM', cM', kP', vm₁, hnamed', -, -, -, -, -, -, -, hW₁, hstep₁⟩ := Steps.initColdArgsNest (e := e) X.here hx X.warmed hpl hown hnm2 hnm hlink hinst hcode2 (f := F0 m pc ls (st.map (pv_im E))) rfl hlen9 hstk hd
      refine ⟨mk', vm₁, hnamed', X.noted hW₁, fun target ht => hstep₁ target fun acts => ?_⟩
      have := ht acts
      rw [ha1, List.map_cons] at this
      exact this
end PV12
