/-! WHAT THE TABLES SAY OF THE METHODS -/
/-- methods: name, code, handlers (start, end, handler, entry of the class) -/
abbrev pvG : Type := Nat → MethodName × ByteArray × List (Nat × Nat × Nat × Nat)
def pv_nArgs (y : MethodName) (n : Nat) : Prop := ∀ sig, parseMethodDescriptor y.desc = some sig → n = sig.parameters.length
def pv_OKc (E : pvE) (G : pvG) (own : String) (i : Instr) (r1 r2 r3 : Nat) (args : Array Value) (s : State) : Prop := match i with
  | .invokevirtual idx => pv_nArgs (G r1).1 (r2 - 1) ∧ (Jvm.Cond.methodLink own idx (G r1).1).before args s = true ∧ (Jvm.Cond.instanceMethod (G r1).1).before args s = true ∧
      ((r3 = 90 ∧ (Jvm.Cond.selects "java/lang/String" (G r1).1 (G r1).1).before args s = true ∧ (pv_cl E)[90]? = none) ∨ (r3 < 90 ∧ ∃ r : vw_C, (pv_cl E)[r3]? = some r ∧ (Jvm.Cond.selects r.1 (G r1).1 (G r1).1).before args s = true))
  | .invokestatic idx => r3 = 0 → pv_nArgs (G r1).1 r2 ∧ (Jvm.Cond.methodLink own idx (G r1).1).before args s = true ∧ (Jvm.Cond.static (G r1).1).before args s = true
  | .invokespecial idx => r3 ≠ 2 → pv_nArgs (G r1).1 (r2 - 1) ∧ (G r1).1.name = "<init>" ∧ (G r1).2.2 = [] ∧ (Jvm.Cond.instanceMethod (G r1).1).before args s = true ∧
      ((r3 = 0 ∧ (Jvm.Cond.methodLink own idx (G r1).1).before args s = true) ∨ (r3 = 1 ∧ ∃ host : String, (Jvm.Cond.methodLinkNest own idx (G r1).1 host).before args s = true))
  | _ => True
/-- a handler of ours and one of the tables -/
def pv_HOK (E : pvE) (own : String) (x : Nat × Nat × Nat × Nat) (y : Nat × Nat × Nat × List Nat) (args : Array Value) (s : State) : Prop :=
  x.1 = y.1 ∧ x.2.1 = y.2.1 ∧ x.2.2.1 = y.2.2.1 ∧ x.2.2.2 ≠ 0 ∧ ∃ (name : String) (cT : ClassId), (Jvm.Cond.classLink own x.2.2.2 name).before args s = true ∧ s.vm.findClass name = some cT ∧
    ∀ ci, 16 ≤ ci → ci < 20 → (∃ k, s.vm.classes[(pv_D E).1 ci]? = some k) ∧ s.vm.assignable ((pv_D E).1 ci) cT = decide ((1000 + ci) ∈ y.2.2.2)
/-- 'throw new X()' at pc: its four instructions, and the words of the class -/
def pv_OK4 (E : pvE) (P : pvP) (own : String) (code : ByteArray) (pc idx r1 : Nat) (args : Array Value) (s : State) : Prop := (16 ≤ r1 ∧ r1 < 20) ∧ ∃ (r : vw_C) (ic : Nat), (pv_cl E)[r1]? = some r ∧
  decode code (pc + 3) = .ok (.dup, 1) ∧ decode code (pc + 4) = .ok (.invokespecial ic, 3) ∧ decode code (pc + 7) = .ok (.athrow, 1) ∧
  (Jvm.Cond.classLink own idx r.1).before args s = true ∧ (Jvm.Cond.instantiable r.1 (pv_nf P r1)).before args s = true ∧ (Jvm.Cond.initialized r.1).before args s = true ∧ (Jvm.Cond.methodLink own ic ⟨r.1, "<init>", "()V"⟩).before args s = true
theorem pv_OK4.moved {E : pvE} {P : pvP} {own : String} {code : ByteArray} {pc idx r1 : Nat} {args a' : Array Value} {s U : State} (hW : s.WarmedH U.vm) (h : pv_OK4 E P own code pc idx r1 args s) : pv_OK4 E P own code pc idx r1 a' U := by
  obtain ⟨h1, r, ic, h2, h3, h4, h5, h6, h7, h8, h9⟩ := h
  exact ⟨h1, r, ic, h2, h3, h4, h5, word_at hW (good_of_word rfl) h6, word_at hW (good_of_word rfl) h7, word_at hW (good_of_word rfl) h8, word_at hW (good_of_word rfl) h9⟩
def pv_MOK (E : pvE) (P : pvP) (G : pvG) (M : Nat) (args : Array Value) (s : State) : Prop :=
  plainFor (G M).1 = true ∧ ((G M).1.cls ≠ "java/lang/invoke/MethodHandle" ∧ (G M).1.cls ≠ "java/lang/invoke/VarHandle") ∧
  (Jvm.Cond.codeWith (G M).1 (G M).2.1 (pv_mi P M).2.2.1 (pv_mi P M).2.1 (G M).2.2).before args s = true ∧ (Jvm.Cond.initialized (G M).1.cls).before args s = true ∧
  (pv_mi P M).2.2.1 ≤ 24 ∧ ((pv_mi P M).1 = true → (G M).1.name = "<init>") ∧
  ((G M).2.2.length = (pv_mi P M).2.2.2.length ∧ ∀ (j : Nat) x y, (G M).2.2[j]? = some x → (pv_mi P M).2.2.2[j]? = some y → pv_HOK E (G M).1.cls x y args s) ∧
  ∀ (pc : Nat) (i : Instr) (len r1 r2 r3 : Nat), pv_ins P M pc = some (i, len, r1, r2, r3) → decode (G M).2.1 pc = .ok (i, len) ∧ (pv_len i = none ∨ pv_len i = some len) ∧ pv_OKi E P (G M).1.cls pc i r1 r2 r3 args s ∧ pv_OKc E G (G M).1.cls i r1 r2 r3 args s ∧ (i = .areturn → (∃ n, (pv_mi P M).2.1 = some (.object n)) ∨ ∃ t, (pv_mi P M).2.1 = some (.array t)) ∧ (∀ idx, i = .new idx → r3 = 4 → pv_OK4 E P (G M).1.cls (G M).2.1 pc idx r1 args s)
theorem pv_w {w : Jvm.Cond} {args a' : Array Value} {s U : State} (hg : goodWord w = true) (hW : s.WarmedH U.vm) (h : w.before args s = true) : w.before a' U = true := word_at hW (good_of_word hg) h
theorem pv_KC.moved {E : pvE} {P : pvP} {args a' : Array Value} {s U : State} (hW : s.WarmedH U.vm) (h : pv_KC E P args s) : pv_KC E P a' U := by
  intro ci r hr
  obtain ⟨h1, h2, h3⟩ := h ci r hr
  refine ⟨u_Kn_moved hW.alike h1, fun w hw => ?_, h3⟩
  refine pv_w ?_ hW (h2 w hw)
  obtain ⟨k, -, rfl⟩ := List.mem_map.mp hw
  unfold u_lay
  split <;> rfl
theorem pv_KA.moved {E : pvE} {s U : State} (hW : s.WarmedH U.vm) (h : pv_KA E s) : pv_KA E U := fun t ht => ⟨arrOfT_moved hW.alike (h t ht).1, (h t ht).2.moved hW.alike⟩
theorem pv_KX.moved {E : pvE} {P : pvP} {s U : State} (hW : s.WarmedH U.vm) (h : pv_KX E P s) : pv_KX E P U := by
  intro j hj
  obtain ⟨a, cell, h1, h2, h3, h4, h5⟩ := h j hj
  exact ⟨a, cell, h1, h2, h3, State.isArrayOf_alike hW.alike h4, h5⟩
theorem pv_KS.moved {E : pvE} {P : pvP} {s U : State} (hW : s.WarmedH U.vm) (h : pv_KS E P s) : pv_KS E P U := fun j hj => ⟨va_O.moved hW.alike (h j hj).1, va_OF.moved hW.alike (h j hj).2.1, va_OF.moved hW.alike (h j hj).2.2⟩
theorem pv_K.moved {E : pvE} {P : pvP} {args a' : Array Value} {s U : State} (hW : s.WarmedH U.vm) (h : pv_K E P args s) : pv_K E P a' U := by
  obtain ⟨h1, h2, h3, h4, h5, cS, kS, h6, h7⟩ := h
  obtain ⟨kS', h8, -⟩ := hW.alike.2.2 _ _ h7
  exact ⟨h1, h2.moved hW, h3.moved hW, h4.moved hW, h5.moved hW, cS, kS', by rw [hW.alike.findClass]; exact h6, h8⟩
theorem pv_fOK.moved {E : pvE} {own : String} {idx ci fk nest : Nat} {args a' : Array Value} {s U : State} (hW : s.WarmedH U.vm) (h : pv_fOK E own idx ci fk nest args s) : pv_fOK E own idx ci fk nest a' U := by
  obtain ⟨r, h1, h2, h3, h4⟩ := h
  refine ⟨r, h1, h2, h3, ?_⟩
  rcases h4 with ⟨h5, h6⟩ | ⟨h5, host, h6⟩
  · exact Or.inl ⟨h5, pv_w rfl hW h6⟩
  · exact Or.inr ⟨h5, host, va_Nw.use rfl (va_Nw.warmF hW (va_Nw.of rfl h6))⟩
set_option maxHeartbeats 2000000 in
theorem pv_OKi.moved {E : pvE} {P : pvP} {own : String} {pc : Nat} {i : Instr} {r1 r2 r3 : Nat} {args a' : Array Value} {s U : State} (hW : s.WarmedH U.vm) (h : pv_OKi E P own pc i r1 r2 r3 args s) : pv_OKi E P own pc i r1 r2 r3 a' U := by
  cases i with
  | ifCond c off => exact h
  | if_icmp c off => exact h
  | ifnull off => exact h
  | goto off => exact h
  | ldc idx => exact ⟨fun z => pv_w rfl hW (h.1 z), fun z => ⟨(h.2 z).1, (h.2 z).2.imp (fun tx q => q.warm hW)⟩⟩
  | ldc_w idx => exact ⟨fun z => pv_w rfl hW (h.1 z), fun z => ⟨(h.2 z).1, (h.2 z).2.imp (fun tx q => q.warm hW)⟩⟩
  | ldc2_w idx => exact pv_w rfl hW h
  | getfield idx =>
    rcases h with ⟨h1, h2, h3⟩ | ⟨h1, h2⟩
    · refine Or.inl ⟨h1, ?_, h3⟩
      rcases h2 with ⟨h4, h5⟩ | ⟨h4, h5⟩
      · exact Or.inl ⟨h4, pv_w rfl hW h5⟩
      · exact Or.inr ⟨h4, pv_w rfl hW h5⟩
    · exact Or.inr ⟨h1, h2.moved hW⟩
  | putfield idx => exact ⟨h.1.moved hW, h.2⟩
  | getstatic idx =>
    obtain ⟨C, n, d, h1, h2, h3⟩ := h
    exact ⟨C, n, d, pv_w rfl hW h1, fun z => va_Z.moved hW.alike (h2 z), fun z => va_Z.moved hW.alike (h3 z)⟩
  | new idx =>
    intro z
    obtain ⟨r, h1, h2, h3, h4, h5, h6⟩ := h z
    exact ⟨r, h1, h2, h3, pv_w rfl hW h4, pv_w rfl hW h5, pv_w rfl hW h6⟩
  | newarray a => exact pv_w rfl hW h
  | anewarray idx => exact ⟨pv_w rfl hW h.1, va_AO.use (va_AO.moved hW.alike (va_AO.of h.2))⟩
  | invokespecial idx =>
    intro z
    obtain ⟨h1, h2, h3⟩ := h z
    exact ⟨pv_w rfl hW h1, pv_w rfl hW h2, pv_w rfl hW h3⟩
  | invokestatic idx =>
    intro z
    obtain ⟨h1, h2, h3, h4⟩ := h z
    exact ⟨pv_w rfl hW h1, pv_w rfl hW h2, pv_w rfl hW h3, pv_w rfl hW h4⟩
  | _ => trivial
theorem pv_OKc.moved {E : pvE} {G : pvG} {own : String} {i : Instr} {r1 r2 r3 : Nat} {args a' : Array Value} {s U : State} (hW : s.WarmedH U.vm) (h : pv_OKc E G own i r1 r2 r3 args s) : pv_OKc E G own i r1 r2 r3 a' U := by
  cases i with
  | invokevirtual idx =>
    obtain ⟨h1, h2, h3, h4⟩ := h
    refine ⟨h1, pv_w rfl hW h2, pv_w rfl hW h3, ?_⟩
    rcases h4 with ⟨h5, h6, h7⟩ | ⟨h5, r, h6, h7⟩
    · exact Or.inl ⟨h5, pv_w rfl hW h6, h7⟩
    · exact Or.inr ⟨h5, r, h6, pv_w rfl hW h7⟩
  | invokestatic idx =>
    intro z
    obtain ⟨h1, h2, h3⟩ := h z
    exact ⟨h1, pv_w rfl hW h2, pv_w rfl hW h3⟩
  | invokespecial idx =>
    intro z1
    obtain ⟨h1, h2, h3, h4, h5⟩ := h z1
    refine ⟨h1, h2, h3, pv_w rfl hW h4, ?_⟩
    rcases h5 with ⟨h6, h7⟩ | ⟨h6, host, h7⟩
    · exact Or.inl ⟨h6, pv_w rfl hW h7⟩
    · exact Or.inr ⟨h6, host, va_Nw.use rfl (va_Nw.warmM hW (va_Nw.of rfl h7))⟩
  | _ => trivial
theorem pv_HOK.moved {E : pvE} {own : String} {x : Nat × Nat × Nat × Nat} {y : Nat × Nat × Nat × List Nat} {args a' : Array Value} {s U : State} (hW : s.WarmedH U.vm) (h : pv_HOK E own x y args s) : pv_HOK E own x y a' U := by
  obtain ⟨h1, h2, h3, h4, name, cT, h5, h6, h7⟩ := h
  refine ⟨h1, h2, h3, h4, name, cT, pv_w rfl hW h5, by rw [hW.alike.findClass]; exact h6, fun ci c1 c2 => ?_⟩
  obtain ⟨⟨k, hk⟩, h8⟩ := h7 ci c1 c2
  obtain ⟨k', hk', -⟩ := hW.alike.2.2 _ _ hk
  exact ⟨⟨k', hk'⟩, by rw [hW.alike.assignable]; exact h8⟩
theorem pv_MOK.moved {E : pvE} {P : pvP} {G : pvG} {M : Nat} {args a' : Array Value} {s U : State} (hW : s.WarmedH U.vm) (h : pv_MOK E P G M args s) : pv_MOK E P G M a' U := by
  obtain ⟨h1, h2, h3, h4, h5, h6, ⟨h7, h8⟩, h9⟩ := h
  refine ⟨h1, h2, pv_w rfl hW h3, pv_w rfl hW h4, h5, h6, ⟨h7, fun j x y e1 e2 => (h8 j x y e1 e2).moved hW⟩, fun pc i len r1 r2 r3 e => ?_⟩
  obtain ⟨g1, g2, g3, g4, g5, g6⟩ := h9 pc i len r1 r2 r3 e
  exact ⟨g1, g2, g3.moved hW, g4.moved hW, g5, fun idx z1 z2 => (g6 idx z1 z2).moved hW⟩
