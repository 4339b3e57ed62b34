/-! THE SIMULATION, BY INDUCTION ON THE PURE MACHINE's STEPS -/
/-- what the heap has from before, at a method's start -/
def pv_SH (E : pvE) (s : State) : Prop := pv_B E ≤ s.heap.size ∧ ∀ q, q < pv_B E → s.heap[q]? = (pv_H0 E)[q]?
/-- a frame of the method M stands with its tables -/
def pv_FR (E : pvE) (P : pvP) (G : pvG) (XF : Array Value → State → Prop) (M : Nat) (p : Program) (s : State) (m : MethodId) (args : Array Value) (meth : Method) (c : Code) : Prop :=
  p.tables.exec = Jvm.exec ∧ c.code = (G M).2.1 ∧ c.maxLocals = (pv_mi P M).2.2.1 ∧ meth.sig.returnType = (pv_mi P M).2.1 ∧ meth.locks = false ∧ c.exceptionTable.toList.map (fun h => (h.startPc, h.endPc, h.handlerPc, h.catchType)) = (G M).2.2 ∧
  s.vm.findClass (G M).1.cls = some m.cls ∧ ((pv_mi P M).1 = true → meth.name = "<init>") ∧ pv_K E P args s ∧ (∀ M', (∃ pc, (pv_ins P M' pc).isSome = true) → pv_MOK E P G M' args s) ∧ XF args s ∧ pv_SH E s
/-- 'throw new X()', as a law of the tables XF -/
def pv_XS (E : pvE) (P : pvP) (XF : Array Value → State → Prop) : Prop :=
  (∀ (args a' : Array Value) (s U : State), s.WarmedH U.vm → XF args s → XF a' U) ∧
  ∀ (p : Program) (l : Launch) (e : Env) (R : Room) (s : State) (m : MethodId) (args : Array Value) (below : List Frame) (meth : Method) (c : Code) (nL pc : Nat) (lv : pvL) (st : List Value) (h : pvH) (own : String) (idx r1 : Nat),
    l.flags = flags0 → p.tables.exec = Jvm.exec → c.maxLocals = nL → meth.locks = false → c.exceptionTable.toList = [] → pv_K E P args s → XF args s → pv_SH E s → s.vm.findClass own = some m.cls → 10 ≤ R.frames → 600 ≤ R.locals →
    pv_OK4 E P own c.code pc idx r1 args s → decode c.code pc = .ok (.new idx, 3) → (1 ≤ h.2.2.1 ∧ pv_nf P r1 ≤ h.2.2.2) ∧ (st.map Value.category).sum ≤ 24 →
    pv_Go E p l e R s m args below meth c (pv_End E R s below (.inr h.2.1) (pv_new h (1000 + r1, pv_nf P r1, fun _ => .null))) nL pc lv st h
/-- constructors answer nothing; the callees of calls that the tables know -/
def pv_PV (P : pvP) : Prop := ∀ (M pc : Nat) (i : Instr) (len r1 r2 r3 : Nat), pv_ins P M pc = some (i, len, r1, r2, r3) → ∀ idx, i = .invokespecial idx → r3 ≠ 2 → (pv_mi P r1).2.1 = none
theorem pv_exec_ins {P : pvP} {n d M pc : Nat} {lv : pvL} {st : List Value} {h : pvH} {x : pvO × pvH} (he : pv_exec P n d M pc lv st h = some x) : ∃ i len r1 r2 r3, pv_ins P M pc = some (i, len, r1, r2, r3) := by
  cases n with
  | zero => cases he
  | succ n =>
    unfold pv_exec at he
    cases hs : pv_step P M pc lv st h with
    | none => rw [hs] at he; cases he
    | some r =>
      unfold pv_step at hs
      cases hi : pv_ins P M pc with
      | none => rw [hi] at hs; cases hs
      | some q => exact ⟨q.1, q.2.1, q.2.2.1, q.2.2.2.1, q.2.2.2.2, rfl⟩
set_option maxHeartbeats 4000000 in
theorem pv_sim {E : pvE} {P : pvP} {G : pvG} {XF : Array Value → State → Prop} (hXS : pv_XS E P XF) (hPV : pv_PV P) : ∀ (n d M pc : Nat) (lv : pvL) (st : List Value) (h : pvH) (o : pvO) (h' : pvH), pv_exec P n d M pc lv st h = some (o, h') →
    ∀ (p : Program) (l : Launch) (e : Env) (R : Room) (s : State) (m : MethodId) (args : Array Value) (below : List Frame) (meth : Method) (c : Code), l.flags = flags0 → pv_FR E P G XF M p s m args meth c → (d + 10 ≤ R.frames ∧ 60 * (d + 10) ≤ R.locals) →
      pv_Go E p l e R s m args below meth c (pv_End E R s below o h') (pv_mi P M).2.2.1 pc lv st h := by
  intro n
  induction n with
  | zero => intro d M pc lv st h o h' he; cases he
  | succ n ih =>
    intro d M pc lv st h o h' he p l e R s m args below meth c hfl hF hRo
    obtain ⟨i, len, r1, r2, r3, hi⟩ := pv_exec_ins he
    obtain ⟨hx, hb, hml, hret, hlocks, hht, hown, hini, hK, hMall, hXF, hSH⟩ := id hF
    obtain ⟨-, -, -, -, -, -, ⟨hhl, hhok⟩, hins⟩ := hMall M ⟨pc, by rw [hi]; rfl⟩
    obtain ⟨hd, hlen, hOKi, hOKc, hrt, hOK4⟩ := hins pc i len r1 r2 r3 hi
    unfold pv_exec at he
    cases hs : pv_step P M pc lv st h with
    | none => rw [hs] at he; cases he
    | some q =>
      rw [hs] at he
      rcases q with ⟨pc', lv', st', h1⟩ | ⟨M', av, rest, pc', h1⟩ | ⟨o1, h1⟩
      · have K := ih d M pc' lv' st' h1 o h' he p l e R s m args below meth c hfl hF hRo
        refine pv_sim1 hx hb hml hK hown ⟨by omega, by omega⟩ rfl hini hi hd hlen hOKi hs K
      · obtain ⟨⟨rfl, hl2, hw1, hw2, rfl, rfl, rfl, rfl⟩, hk⟩ := pv_call_inv hi hs
        cases d with
        | zero => cases he
        | succ d =>
          dsimp only at he
          cases hc : pv_exec P n d M' 0 (lv_args 0 (st.take r2).reverse) [] h1 with
          | none => rw [hc] at he; cases he
          | some q2 =>
            rw [hc] at he
            obtain ⟨o2, h2⟩ := q2
            intro H locs cells slots ls hR hl T hT X
            obtain ⟨i', len', r1', r2', r3', hi'⟩ := pv_exec_ins hc
            have hM' := hMall M' ⟨0, by rw [hi']; rfl⟩
            have hlen3 : len = 3 := by
              rcases hk with ⟨idx, e1, -⟩ | ⟨idx, e1, -⟩ | ⟨idx, e1, -⟩ <;> rw [e1] at hlen <;> rcases hlen with h9 | h9 <;> first | (cases h9; done) | exact (Option.some.inj h9).symm
            subst hlen3
            have hret' : ∀ idx, i = .invokespecial idx → (pv_mi P M').2.1 = none := fun idx e1 => by
              rcases hk with ⟨idx', e2, -⟩ | ⟨idx', e2, -⟩ | ⟨idx', e2, h2', -⟩
              · rw [e1] at e2; cases e2
              · rw [e1] at e2; cases e2
              · exact hPV M pc i 3 M' r2 r3 hi idx' e2 h2'
            obtain ⟨mk, vm₁, hnamed, X₁, hstep₁⟩ := pv_callTo (ls := ls) (len := 3) X hx hown hK (by rw [hT]; exact hR) hOKc hM' (by rw [hb]; exact hd) hl2 hk hret'
            have hM1 := hM'.moved (a' := args) (U := T.setVm vm₁) X₁.warmed
            obtain ⟨hpn, hnm, hcode, hinit, h24, hini', -⟩ := hM1
            obtain ⟨mk', methM, cM, hnamed', hmethM, hcM, hbM, hlM, hhM, hrM, hlocksM, hsigM⟩ := Cond.codeWith_spec hcode
            have hnamed1 := X₁.named hnamed
            cases hnamed1.symm.trans hnamed'
            have hplain : (T.setVm vm₁).plainMethod mk := State.plainMethod.of_named hpn hnamed1 hmethM
            have hxv := hK.1
            have hcat : (((st.drop r2).map (pv_im E)).map fun v => v.category).sum ≤ 24 := by rw [pv_catm hxv]; exact hw1
            have hbudget := hR.2.2.2.2
            obtain ⟨Y, hinv⟩ := X₁.into (g := F0 m pc ls ((st.drop r2).map (pv_im E))) rfl (by rw [hml]; exact hl.1) (ig := i) (len := 3) (by rw [hb]; exact hd) (((st.take r2).reverse).map (pv_im E)).toArray (R' := { frames := R.frames - 1, cells := h1.2.2.1, slots := h1.2.2.2, locals := R.locals - 60 }) hmethM hcM hlocksM hplain
              (by dsimp only; omega) (by
                rw [hlM]
                show 2 * 0 + (((st.drop r2).map (pv_im E)).map fun v => v.category).sum + ((pv_mi P M').2.2.1 + 11) + (R.locals - 60) ≤ R.locals
                omega) (by dsimp only; omega) (by dsimp only; omega)
            have hWc : s.WarmedH ((T.setVm vm₁).calling (F0 m pc ls ((st.drop r2).map (pv_im E))) mk (((st.take r2).reverse).map (pv_im E)).toArray).vm := X₁.warmed
            have hFc : pv_FR E P G XF M' p ((T.setVm vm₁).calling (F0 m pc ls ((st.drop r2).map (pv_im E))) mk (((st.take r2).reverse).map (pv_im E)).toArray) mk (((st.take r2).reverse).map (pv_im E)).toArray methM cM := by
              refine ⟨hx, hbM, hlM, hrM, hlocksM, hhM, ?_, fun z => ?_, hK.moved hWc, fun M2 z => (hMall M2 z).moved hWc, hXS.1 _ _ _ _ hWc hXF, ?_⟩
              · exact findClass_of_methodNamed (s := T.setVm vm₁) hnamed1
              · rw [(name_of_methodNamed hnamed1 hmethM).1]; exact hini' z
              · have e1 : ((T.setVm vm₁).calling (F0 m pc ls ((st.drop r2).map (pv_im E))) mk (((st.take r2).reverse).map (pv_im E)).toArray).heap = H := by
                  rw [← hT]
                  simp [State.calling, State.pushFrame, State.setFrames, State.setTop, State.modifyTopJava]
                exact ⟨by rw [e1, hR.1]; omega, fun q hq => by rw [e1]; exact hR.2.2.1 q hq⟩
            have hgo := ih d M' 0 (lv_args 0 (st.take r2).reverse) [] h1 o2 h2 hc p l e { frames := R.frames - 1, cells := h1.2.2.1, slots := h1.2.2.2, locals := R.locals - 60 } _ mk _ (.java (F0 m pc ls ((st.drop r2).map (pv_im E))) :: below) methM cM hfl hFc ⟨by dsimp only; omega, by dsimp only; omega⟩
            have hRc : pv_Rel E { frames := R.frames - 1, cells := h1.2.2.1, slots := h1.2.2.2, locals := R.locals - 60 } h1 H [] 0 0 := ⟨hR.1, hR.2.1, hR.2.2.1, (fun q hq => by cases hq), (by dsimp only; omega), (by dsimp only; omega)⟩
            have hfit : (lg_sl (((st.take r2).reverse).map (pv_im E))).length ≤ (pv_mi P M').2.2.1 := by rw [pv_sl_len, pv_catR hxv]; exact hw2
            have hle := lv_entry (((st.take r2).reverse).map (pv_im E)) hfit
            rw [pv_args_map hxv] at hle
            have hw := hgo H [] 0 0 _ hRc hle
            have hent : entryFrame mk (((st.take r2).reverse).map (pv_im E)).toArray cM.maxLocals = F0 mk 0 ((lg_sl (((st.take r2).reverse).map (pv_im E)) ++ List.replicate ((pv_mi P M').2.2.1 - (lg_sl (((st.take r2).reverse).map (pv_im E))).length) Slot.unset).toArray) [] := by
              rw [hlM]
              exact lg_entry_eq mk _ _
            have hheapY : (((T.setVm vm₁).setTop (F0 m pc ls ((st.drop r2).map (pv_im E)))).pushFrame (.java (entryFrame mk (((st.take r2).reverse).map (pv_im E)).toArray cM.maxLocals))).heap = H := by
              rw [← hT]
              simp [State.pushFrame, State.setFrames, State.setTop, State.modifyTopJava]
            obtain ⟨t, hst, hrun, hend, hWt, hoOK, L, k, nn, hsame, hRt⟩ := hw _ hheapY Y
            have hcome : ∀ acts, Steps p.tables e below (doInvoke e ((T.setVm vm₁).setTop (F0 m pc ls ((st.drop r2).map (pv_im E)))) acts mk (((st.take r2).reverse).map (pv_im E)).toArray).1 t := by
              intro acts
              rw [hinv acts, hent]
              rw [hent] at hst
              exact pv_weaken hst
            have hRt' : pv_Rel E R h2 t.heap (locs ++ L) (cells + k) (slots + nn) := by
              obtain ⟨a1, a2, a3, a4, a5, a6⟩ := hRt
              refine ⟨a1, a2, a3, t_lL hR.2.2.2.1 a4, ?_, ?_⟩
              · dsimp only at a5; omega
              · dsimp only at a6; omega
            cases o2 with
            | inl v =>
              obtain ⟨T', X', -, -, ht⟩ := X₁.outOf (g := F0 m pc ls ((st.drop r2).map (pv_im E))) rfl (ig := i) (len := 3) (by rw [hb]; exact hd) hend hWt hsame
              have K := ih (d + 1) M (pc + 3) lv (v.toList ++ st.drop r2) h2 o h' he p l e R s m args below meth c hfl hF hRo
              have hheap' : T'.heap = t.heap := by
                rw [ht]
                simp [State.setTop, State.modifyTopJava]
              obtain ⟨t2, hst2, hq2⟩ := K t.heap (locs ++ L) (cells + k) (slots + nn) ls hRt' hl T' hheap' X'
              refine ⟨t2, hstep₁ _ fun acts => (hcome acts).trans ?_, hq2⟩
              rw [ht]
              have e1 : ({ F0 m pc ls ((st.drop r2).map (pv_im E)) with pc := (F0 m pc ls ((st.drop r2).map (pv_im E))).pc + 3, stack := (Option.map (pv_im E) v).toList ++ (F0 m pc ls ((st.drop r2).map (pv_im E))).stack } : JFrame) = F0 m (pc + 3) ls ((v.toList ++ st.drop r2).map (pv_im E)) := by
                cases v <;> rfl
              rw [e1]
              exact hst2
            | inr x =>
              obtain ⟨T', X', -, -, ht⟩ := X₁.outOfThrown (g := F0 m pc ls ((st.drop r2).map (pv_im E))) rfl hend hWt hsame
              have hheap' : T'.heap = t.heap := by
                rw [ht]
                simp [State.pushFrame, State.setFrames, State.setTop, State.modifyTopJava]
              obtain ⟨hx1, hx2⟩ : x < h2.2.1 ∧ 1000 ≤ (h2.1 x).1 := hoOK
              obtain ⟨ci, cell, ⟨c1, c2, c3⟩, hcell, hcls, hvm⟩ : ∃ (ci : Nat) (cell : Cell), ((h2.1 x).1 = 1000 + ci ∧ 16 ≤ ci ∧ ci < 20) ∧ t.heap[pv_B E + x]? = some cell ∧ cell.cls = (pv_D E).1 ci ∧ cell.vm = .none := by
                rcases hRt.2.1 x hx1 with ⟨⟨q1, -⟩, -⟩ | ⟨ci, r, q1, q2, -⟩ | hq
                · omega
                · omega
                · exact hq
              have hpl : e.platform.magicAccessors = ({} : Platform).magicAccessors := by rw [X.admits.platform]
              have hxl : c.exceptionTable.toList.length = (pv_mi P M).2.2.2.length := by rw [← hhl, ← hht, List.length_map]
              obtain ⟨vm2, hW2, hfind⟩ := pv_goT (E := E) (e := e) (s := s) (args := args) hpl (f := F0 m pc ls ((st.drop r2).map (pv_im E))) hown (a := pv_B E + x) (cell := cell) (fun k z => by rw [hvm] at z; cases z) c2 c3 hcls c.exceptionTable.toList (pv_mi P M).2.2.2
                ((T'.setTop (F0 m pc ls ((st.drop r2).map (pv_im E)))).pushFrame (.throwing (pv_B E + x))) (by rw [Stand.throwing_vm]; exact X'.warmed) (by rw [Stand.throwing_heap, hheap']; exact hcell) hxl (fun j y z e1 e2 => hhok j _ z (by rw [← hht, List.getElem?_map, e1]; rfl) e2)
              have hFT : pv_FT e ((T'.setTop (F0 m pc ls ((st.drop r2).map (pv_im E)))).pushFrame (.throwing (pv_B E + x))) (F0 m pc ls ((st.drop r2).map (pv_im E))) (pv_B E + x) (pv_H1 (pv_hnd (pv_mi P M).2.2.2 pc (1000 + ci))) vm2 := by
                intro Q E' d' acts
                rw [Jvm.W.findHandler_eq (meth := meth) (code := c) (by rw [Stand.throwing_vm]; exact X'.method') X'.code]
                exact hfind Q E' d' acts
              dsimp only at he
              rw [c1] at he
              have X2 : Stand p l e R s m args below meth c (T'.setVm vm2) (locs ++ L) (cells + k) (slots + nn) := X'.noted hW2
              cases hh : pv_hnd (pv_mi P M).2.2.2 pc (1000 + ci) with
              | none =>
                rw [hh] at he hFT
                cases he
                have hleave := pv_leaves (tb := p.tables) (meth := meth) X'.here X'.tail (g := F0 m pc ls ((st.drop r2).map (pv_im E))) (by rw [hW2.alike.method?]; exact X'.method) hlocks rfl rfl hFT
                refine ⟨(T'.setVm vm2).setFrames (.throwing (pv_B E + x) :: below), hstep₁ _ fun acts => (hcome acts).trans ?_, X2.here.running, ?_, (X2.ends _).1, ⟨hx1, hx2⟩, locs ++ L, cells + k, slots + nn, (X2.ends _).2, ?_⟩
                · rw [ht]
                  exact hleave
                · obtain ⟨g₀, hfr⟩ := X2.frames_eq
                  exact State.frames_setFrames _ (State.cur_lt_of_frames hfr)
                · have e1 : ((T'.setVm vm2).setFrames (.throwing (pv_B E + x) :: below)).heap = t.heap := hheap'
                  rw [e1]
                  exact hRt'
              | some hp =>
                rw [hh] at he hFT
                have K := ih (d + 1) M hp lv [.ref x] h2 o h' he p l e R s m args below meth c hfl hF hRo
                obtain ⟨t2, hst2, hq2⟩ := K t.heap (locs ++ L) (cells + k) (slots + nn) ls hRt' hl (T'.setVm vm2) hheap' X2
                refine ⟨t2, hstep₁ _ fun acts => (hcome acts).trans ?_, hq2⟩
                rw [ht]
                exact pv_caught X'.here hFT hst2
      · cases he
        refine pv_fin_sim hx hb hK.1 hret hlocks hi hd hlen (fun idx z1 z2 z3 => ?_) hrt hs
        have hlen3 : len = 3 := by
          rw [z1] at hlen
          rcases hlen with h9 | h9
          · cases h9
          · exact (Option.some.inj h9).symm
        have h0 : (G M).2.2.length = 0 := by rw [hhl, z3.2.2]; rfl
        have h00 : c.exceptionTable.toList.length = 0 := by rw [← h0, ← hht, List.length_map]
        exact hXS.2 p l e R s m args below meth c _ pc lv st h _ idx r1 hfl hx hml hlocks (List.length_eq_zero_iff.mp h00) hK hXF hSH hown (by omega) (by omega) (by rw [hb]; exact hOK4 idx z1 z2) (by rw [hb, hd, z1, hlen3]) ⟨z3.1, z3.2.1⟩
