/-! EXCEPTIONS: which handler takes one -/
def pv_H1 (r : Option Nat) : Handler := match r with
  | none => .none
  | some hp => .found hp
section PV10
variable {E : pvE} {P : pvP} {p : Program} {l : Launch} {e : Env} {R : Room} {s : State} {m : MethodId} {args : Array Value} {below : List Frame} {meth : Method} {c : Code} {T : State} {locs : List Loc} {cells slots : Nat}
theorem pv_go_link {Q : Handler → Pre} {E : CtlPost} {d : Bool} {acts : List Action} {S : State} {f : JFrame} {a : Addr} {x : ExceptionTableEntry} {t : List ExceptionTableEntry} {cT : ClassId} {cell : Cell} (hx : covers x f.pc = true) (h0 : x.catchType ≠ 0)
    (hl : S.vm.ClassLinks e.platform f.method.cls x.catchType cT) (hcell : S.heap[a]? = some cell) (hobj : ∀ k, cell.vm ≠ .statics k) (hk : ∃ k, S.vm.classes[cell.cls]? = some k) (hc : ∃ k, S.vm.classes[cT]? = some k) :
    wp (findHandler.go f a (x :: t)) Q E e d acts S ↔ (if S.vm.assignable cell.cls cT = true then Q (.found x.handlerPc) d acts (S.setVm (S.vm.noted f.method.cls x.catchType (.cls cT))) else wp (findHandler.go f a t) Q E e d acts (S.setVm (S.vm.noted f.method.cls x.catchType (.cls cT)))) := by
  simp only [covers] at hx
  obtain ⟨ha, ht⟩ := (resolveClass_links e.toSetting hl).op (op := VmOp.resolveClass f.method.cls x.catchType) rfl
  have hal : S.vm.Alike (S.vm.noted f.method.cls x.catchType (.cls cT)) := (Vm.Alike.refl S.vm).noted _ _ _
  obtain ⟨k1, hk1⟩ := hk
  obtain ⟨k2, hk2⟩ := hc
  obtain ⟨k1', hk1', -⟩ := hal.2.2 _ _ hk1
  obtain ⟨k2', hk2', -⟩ := hal.2.2 _ _ hk2
  have e9 : (S.vm.noted f.method.cls x.catchType (.cls cT)).assignable cell.cls cT = S.vm.assignable cell.cls cT := hal.assignable _ _
  cases hq : S.vm.assignable cell.cls cT with
  | true =>
    rw [hq] at e9
    simp [findHandler.go, hx, h0, ha, ht, hcell, hobj, hk1', hk2', e9, VmOp.dirties, VmOp.acts]
  | false =>
    rw [hq] at e9
    simp [findHandler.go, hx, h0, ha, ht, hcell, hobj, hk1', hk2', e9, VmOp.dirties, VmOp.acts]
theorem pv_goT (hpl : e.platform.magicAccessors = ({} : Platform).magicAccessors) {own : String} {f : JFrame} (hown : s.vm.findClass own = some f.method.cls) {a : Addr} {cell : Cell} (hobj : ∀ k, cell.vm ≠ .statics k) {ci : Nat} (h16 : 16 ≤ ci) (h20 : ci < 20) (hcls : cell.cls = (pv_D E).1 ci) :
    ∀ (xs : List ExceptionTableEntry) (hs : List (Nat × Nat × Nat × List Nat)) (S : State), s.WarmedH S.vm → S.heap[a]? = some cell → xs.length = hs.length →
      (∀ (j : Nat) x y, xs[j]? = some x → hs[j]? = some y → pv_HOK E own (x.startPc, x.endPc, x.handlerPc, x.catchType) y args s) →
      ∃ vm', s.WarmedH vm' ∧ ∀ (Q : Handler → Pre) (E' : CtlPost) (d : Bool) (acts : List Action), wp (findHandler.go f a xs) Q E' e d acts S ↔ Q (pv_H1 (pv_hnd hs f.pc (1000 + ci))) d acts (S.setVm vm') := by
  intro xs
  induction xs with
  | nil =>
    intro hs S hW hcell hlen _
    have : hs = [] := List.length_eq_zero_iff.mp hlen.symm
    subst this
    exact ⟨S.vm, hW, fun Q E' d acts => by rw [State.setVm_self]; simp [findHandler.go, pv_hnd, pv_H1]⟩
  | cons x xs ih =>
    intro hs S hW hcell hlen hok
    cases hs with
    | nil => cases hlen
    | cons y hs =>
      have hlen' : xs.length = hs.length := by simpa using hlen
      have hok' : ∀ (j : Nat) x y, xs[j]? = some x → hs[j]? = some y → pv_HOK E own (x.startPc, x.endPc, x.handlerPc, x.catchType) y args s := fun j x' y' e1 e2 => hok (j + 1) x' y' (by simpa using e1) (by simpa using e2)
      obtain ⟨q1, q2, q3, h0, name, cT, hlink, hcT, hcl⟩ := hok 0 x y rfl rfl
      dsimp only at q1 q2 q3 h0 hlink
      by_cases hcov : covers x f.pc = true
      · have hcov2 : y.1 ≤ f.pc ∧ f.pc < y.2.1 := by
          simp only [covers, Bool.and_eq_true, decide_eq_true_eq] at hcov
          rw [← q1, ← q2]
          exact hcov
        obtain ⟨c', hc', hl⟩ := Cond.classLink_spec hown hlink e.platform hpl
        cases hcT.symm.trans hc'
        obtain ⟨dk, _, _, kt, hd, _, _, _, _, hkt, _, hopen⟩ := hl.here
        obtain ⟨kt', hkt', -⟩ := hW.alike.2.2 _ _ hkt
        obtain ⟨⟨k0, hk0⟩, hasg⟩ := hcl ci h16 h20
        obtain ⟨k0', hk0', -⟩ := hW.alike.2.2 _ _ hk0
        have hW2 : s.WarmedH (S.vm.noted f.method.cls x.catchType (.cls cT)) := hW.noted hd hopen (State.rightAt_cls hl)
        have hgo := fun (Q : Handler → Pre) (E' : CtlPost) (d : Bool) (acts : List Action) => pv_go_link (Q := Q) (E := E') (d := d) (acts := acts) (t := xs) (a := a) hcov h0 (hW.classLinks hl) hcell hobj ⟨k0', by rw [hcls]; exact hk0'⟩ ⟨kt', hkt'⟩
        have hasg2 : S.vm.assignable cell.cls cT = decide ((1000 + ci) ∈ y.2.2.2) := by rw [hW.alike.assignable, hcls]; exact hasg
        by_cases hin : (1000 + ci) ∈ y.2.2.2
        · refine ⟨_, hW2, fun Q E' d acts => ?_⟩
          rw [hgo, hasg2, if_pos (by simpa using hin)]
          rw [show pv_hnd (y :: hs) f.pc (1000 + ci) = some y.2.2.1 by unfold pv_hnd; rw [if_pos ⟨hcov2.1, hcov2.2, hin⟩], q3]
          rfl
        · obtain ⟨vm', hW', hq⟩ := ih hs (S.setVm (S.vm.noted f.method.cls x.catchType (.cls cT))) hW2 hcell hlen' hok'
          refine ⟨vm', hW', fun Q E' d acts => ?_⟩
          rw [hgo, hasg2, if_neg (by simpa using hin), hq]
          rw [show pv_hnd (y :: hs) f.pc (1000 + ci) = pv_hnd hs f.pc (1000 + ci) by conv => lhs; unfold pv_hnd; rw [if_neg (fun z => hin z.2.2)]]
          exact Iff.rfl
      · have hcov2 : ¬ (y.1 ≤ f.pc ∧ f.pc < y.2.1) := by
          intro z
          apply hcov
          simp only [covers, Bool.and_eq_true, decide_eq_true_eq]
          rw [q1, q2]
          exact z
        obtain ⟨vm', hW', hq⟩ := ih hs S hW hcell hlen' hok'
        refine ⟨vm', hW', fun Q E' d acts => ?_⟩
        rw [Jvm.W.findHandler_go_skip (by simpa using hcov), hq]
        rw [show pv_hnd (y :: hs) f.pc (1000 + ci) = pv_hnd hs f.pc (1000 + ci) by conv => lhs; unfold pv_hnd; rw [if_neg (fun z => hcov2 ⟨z.1, z.2.1⟩)]]
/-- what the search gives, and the tables that it leaves -/
def pv_FT (e : Env) (s : State) (f : JFrame) (a : Addr) (h : Handler) (vm' : Vm) : Prop := ∀ (Q : Handler → Pre) (E' : CtlPost) (d : Bool) (acts : List Action), wp (findHandler f a) Q E' e d acts s ↔ Q h d acts (s.setVm vm')
theorem pv_thr_catch {S : State} {a : Addr} {f : JFrame} {r : List Frame} {pc : Nat} {vm' : Vm} (hfind : pv_FT e S f a (.found pc) vm') :
    (stepThrowing e S a (.java f :: r)).Is ((S.setVm vm').setFrames (.java { f with pc := pc, stack := [.ref a] } :: r)) [] := by
  simp only [stepThrowing, searchFrame, vmDo]
  generalize hr : Sem.go _ e false [] S = res
  obtain ⟨as, rfl, ha⟩ := Sem.eq_ok_of hr (a := Handler.found pc) (s' := S.setVm vm') (acts' := []) (by simp [hfind _ _ _ _])
  exact ⟨rfl, ha⟩
theorem pv_sfs (u : State) (vm' : Vm) (F G : List Frame) : ((u.setFrames F).setVm vm').setFrames G = (u.setVm vm').setFrames G := by
  have h1 : (u.setFrames F).setVm vm' = (u.setVm vm').setFrames F := rfl
  rw [h1, State.setFrames_setFrames]
theorem pv_caught {tb : Tables} {U target : State} {g : JFrame} {a : Addr} (h : At U g.method c below) {pc : Nat} {vm' : Vm}
    (hfind : pv_FT e ((U.setTop g).pushFrame (.throwing a)) g a (.found pc) vm') (hrest : Steps tb e below ((U.setVm vm').setTop { g with pc := pc, stack := [.ref a] }) target) :
    Steps tb e below ((U.setTop g).pushFrame (.throwing a)) target := by
  obtain ⟨hgo, hw⟩ := h.throwing a
  refine Steps.head hgo hw ?_
  rw [stepThread_throwing (frames_entered h.top _), (pv_thr_catch (S := (U.setTop g).pushFrame (.throwing a)) hfind).1]
  obtain ⟨g₀, hg⟩ := Option.isSome_iff_exists.mp h.top
  obtain ⟨r, hr⟩ := State.topJava?_eq_some.mp hg
  have hr' : (U.setVm vm').frames = .java g₀ :: r := hr
  rw [State.setTop_of_frames _ hr'] at hrest
  rw [hr, List.tail_cons, State.pushFrame, pv_sfs, State.setTop_of_frames _ hr, pv_sfs]
  exact hrest
theorem pv_thr_leave {S : State} {a : Addr} {f : JFrame} {r : List Frame} {vm' : Vm} (hm : vm'.method? f.method = some meth) (hl : meth.locks = false) (hlocked : f.locked = none) (hentered : f.entered = []) (hfind : pv_FT e S f a .none vm') :
    (stepThrowing e S a (.java f :: r)).Is ((S.setVm vm').setFrames (.throwing a :: r)) [] := by
  simp only [stepThrowing, searchFrame, vmDo]
  generalize hr : Sem.go _ e false [] S = res
  have hm' : (S.setVm vm').vm.method? f.method = some meth := hm
  obtain ⟨as, rfl, ha⟩ := Sem.eq_ok_of hr (a := Handler.none) (s' := S.setVm vm') (acts' := [])
    (by cases hp : e.platform.frameOwnsMonitors <;> simp [hfind _ _ _ _, hm, hm', hl, hlocked, hentered, hp, leaveIfLocked])
  exact ⟨rfl, ha⟩
theorem pv_leaves {tb : Tables} {U : State} {g : JFrame} {a : Addr} (h : At U g.method c below) (htail : U.frames.tail = below) {vm' : Vm} (hm : vm'.method? g.method = some meth) (hl : meth.locks = false) (hlocked : g.locked = none) (hentered : g.entered = [])
    (hfind : pv_FT e ((U.setTop g).pushFrame (.throwing a)) g a .none vm') : Steps tb e below ((U.setTop g).pushFrame (.throwing a)) ((U.setVm vm').setFrames (.throwing a :: below)) := by
  obtain ⟨hgo, hw⟩ := h.throwing a
  refine Steps.head hgo hw ?_
  rw [stepThread_throwing (frames_entered h.top _), (pv_thr_leave (S := (U.setTop g).pushFrame (.throwing a)) (meth := meth) hm hl hlocked hentered hfind).1]
  obtain ⟨g₀, hg⟩ := Option.isSome_iff_exists.mp h.top
  obtain ⟨r, hr⟩ := State.topJava?_eq_some.mp hg
  rw [htail, State.pushFrame, pv_sfs, State.setTop_of_frames _ hr, pv_sfs]
  exact Steps.refl _
end PV10
