/-! EVERY METHOD STANDS BY THE TABLES -/
theorem pv_allTD {α : Type} {p : α → Bool} {l : List α} {n : Nat} (h1 : (List.take n l).all p = true) (h2 : (List.drop n l).all p = true) : l.all p = true := by
  rw [← List.take_append_drop n l, List.all_append, h1, h2]
  rfl
def pv_anyq (RT : List (Instr × Nat × Nat × Nat)) (i : Instr) (r1 r2 r3 : Nat) : Bool := RT.any (fun e => Nat.beq e.2.1 r1 && (Nat.beq e.2.2.1 r2 && (Nat.beq e.2.2.2 r3 && decide (e.1 = i))))
def pv_ckq (RT : List (Instr × Nat × Nat × Nat)) (cc : ByteArray) (ret : Option FieldType) (q : Nat × pvI) : Bool :=
  decide (decode cc q.1 = .ok (q.2.1, q.2.2.1)) && (decide (pv_len q.2.1 = none) || decide (pv_len q.2.1 = some q.2.2.1)) &&
  (match q.2.1 with
   | .ifCond _ off => decide ((q.1 : Int) + off = (q.2.2.2.1 : Int))
   | .if_icmp _ off => decide ((q.1 : Int) + off = (q.2.2.2.1 : Int))
   | .ifnull off => decide ((q.1 : Int) + off = (q.2.2.2.1 : Int))
   | .goto off => decide ((q.1 : Int) + off = (q.2.2.2.1 : Int))
   | .ldc _ | .ldc_w _ | .ldc2_w _ | .getfield _ | .putfield _ | .getstatic _ | .newarray _ | .anewarray _ | .invokevirtual _ | .invokestatic _ | .invokespecial _ | .new _ => pv_anyq RT q.2.1 q.2.2.2.1 q.2.2.2.2.1 q.2.2.2.2.2
   | .areturn => (match ret with
     | some (.object _) => true
     | some (.array _) => true
     | _ => false)
   | _ => true)
section MOK
variable {B : Nat} {sa : Nat → Nat} {xv : Nat → Value} {D : va_G} {cA : Nat → ClassId} {H0 : Heap} {L : Nat} {xs : Nat → Int32} {args : Array Value} {s : State}
theorem pv_rt {E : pvE} {P : pvP} {G : pvG} {own : String} {RT : List (Instr × Nat × Nat × Nat)} (h : ∀ q ∈ RT, pv_EK E P G own q args s) {i : Instr} {r1 r2 r3 : Nat} (hm : pv_anyq RT i r1 r2 r3 = true) : pv_EK E P G own (i, r1, r2, r3) args s := by
  obtain ⟨e, he, h2⟩ := List.any_eq_true.mp hm
  have h2 : (Nat.beq e.2.1 r1 && (Nat.beq e.2.2.1 r2 && (Nat.beq e.2.2.2 r3 && decide (e.1 = i)))) = true := h2
  simp only [Bool.and_eq_true] at h2
  have : e = (i, r1, r2, r3) := Prod.ext (of_decide_eq_true h2.2.2.2) (Prod.ext (Nat.eq_of_beq_eq_true h2.1) (Prod.ext (Nat.eq_of_beq_eq_true h2.2.1) (Nat.eq_of_beq_eq_true h2.2.2.1)))
  rw [← this]
  exact h e he
set_option maxHeartbeats 4000000 in
theorem pv_ck_sound {E : pvE} {P : pvP} {G : pvG} {own : String} {RT : List (Instr × Nat × Nat × Nat)} (h : ∀ q ∈ RT, pv_EK E P G own q args s) {cc : ByteArray} {ret : Option FieldType} {pc : Nat} {i : Instr} {len r1 r2 r3 : Nat} (hc : pv_ckq RT cc ret (pc, i, len, r1, r2, r3) = true) :
    decode cc pc = .ok (i, len) ∧ (pv_len i = none ∨ pv_len i = some len) ∧ pv_OKi E P own pc i r1 r2 r3 args s ∧ pv_OKc E G own i r1 r2 r3 args s ∧ (i = .areturn → (∃ n, ret = some (.object n)) ∨ ∃ t, ret = some (.array t)) := by
  unfold pv_ckq at hc
  simp only [Bool.and_eq_true, Bool.or_eq_true, decide_eq_true_eq] at hc
  obtain ⟨⟨h1, h2⟩, h3⟩ := hc
  refine ⟨h1, h2, ?_⟩
  cases i with
  | ifCond c off => exact ⟨(by have h4 := of_decide_eq_true h3; exact h4), trivial, (fun z => by cases z)⟩
  | if_icmp c off => exact ⟨(by have h4 := of_decide_eq_true h3; exact h4), trivial, (fun z => by cases z)⟩
  | ifnull off => exact ⟨(by have h4 := of_decide_eq_true h3; exact h4), trivial, (fun z => by cases z)⟩
  | goto off => exact ⟨(by have h4 := of_decide_eq_true h3; exact h4), trivial, (fun z => by cases z)⟩
  | ldc idx => exact ⟨(pv_rt h h3).1, (pv_rt h h3).2, (fun z => by cases z)⟩
  | ldc_w idx => exact ⟨(pv_rt h h3).1, (pv_rt h h3).2, (fun z => by cases z)⟩
  | ldc2_w idx => exact ⟨(pv_rt h h3).1, (pv_rt h h3).2, (fun z => by cases z)⟩
  | getfield idx => exact ⟨(pv_rt h h3).1, (pv_rt h h3).2, (fun z => by cases z)⟩
  | putfield idx => exact ⟨(pv_rt h h3).1, (pv_rt h h3).2, (fun z => by cases z)⟩
  | getstatic idx => exact ⟨(pv_rt h h3).1, (pv_rt h h3).2, (fun z => by cases z)⟩
  | newarray t => exact ⟨(pv_rt h h3).1, (pv_rt h h3).2, (fun z => by cases z)⟩
  | anewarray idx => exact ⟨(pv_rt h h3).1, (pv_rt h h3).2, (fun z => by cases z)⟩
  | invokevirtual idx => exact ⟨(pv_rt h h3).1, (pv_rt h h3).2, (fun z => by cases z)⟩
  | invokestatic idx => exact ⟨(pv_rt h h3).1, (pv_rt h h3).2, (fun z => by cases z)⟩
  | invokespecial idx => exact ⟨(pv_rt h h3).1, (pv_rt h h3).2, (fun z => by cases z)⟩
  | new idx => exact ⟨(pv_rt h h3).1, (pv_rt h h3).2, (fun z => by cases z)⟩
  | areturn =>
    refine ⟨trivial, trivial, fun _ => ?_⟩
    simp only at h3
    split at h3
    · exact Or.inl ⟨_, rfl⟩
    · exact Or.inr ⟨_, rfl⟩
    · cases h3
  | _ => exact ⟨trivial, trivial, (fun z => by cases z)⟩
/-- what is known of the exceptions' classes -/
def pv_XC (D : va_G) (s : State) : Prop := ∀ ci, 16 ≤ ci → ci < 20 → (∃ k, s.vm.classes[D.1 ci]? = some k) ∧ (∀ r : vw_C, pcl[ci]? = some r → s.vm.findClass r.1 = some (D.1 ci)) ∧ ∀ cj, 16 ≤ cj → cj < 20 → s.vm.assignable (D.1 ci) (D.1 cj) = decide (ci = cj)
theorem pv_hok (hS : pv_ST B sa xv H0 args s) (hX : pv_XC D s) {own : String} {a b h ct cj : Nat} {R : String} {T : u_T} {N : Nat} (h0 : ct ≠ 0) (hj : 16 ≤ cj ∧ cj < 20) (hc : pcl[cj]? = some (R, T, N)) (w : Jvm.Cond.classLink own ct R ∈ lw_tbl) : pv_HOK (mkE B sa xv D cA H0) own (a, b, h, ct) (a, b, h, [1000 + cj]) args s := by
  refine ⟨rfl, rfl, rfl, h0, R, D.1 cj, hS.1 _ w, (hX cj hj.1 hj.2).2.1 _ hc, fun ci c1 c2 => ⟨(hX ci c1 c2).1, ?_⟩⟩
  have := (hX ci c1 c2).2.2 cj hj.1 hj.2
  show s.vm.assignable (D.1 ci) (D.1 cj) = _
  rw [this]
  have e1 : (1000 + ci ∈ ([1000 + cj] : List Nat)) ↔ ci = cj := by
    rw [List.mem_singleton]
    omega
  simp only [e1]
theorem pv_mok (hS : pv_ST B sa xv H0 args s) {M : Nat} {y : MethodName} {cb : ByteArray} {hs : List (Nat × Nat × Nat × Nat)} (hg : GG M = (y, cb, hs)) {isI : Bool} {ret : Option FieldType} {ml : Nat} {ph : List (Nat × Nat × Nat × List Nat)} (hm : miP M = (isI, ret, ml, ph)) {I : List (Nat × pvI)} (hi : insOf M = I)
    (hp : plainFor y = true) (hn : y.cls ≠ "java/lang/invoke/MethodHandle" ∧ y.cls ≠ "java/lang/invoke/VarHandle") (hcode : (Jvm.Cond.codeWith y cb ml ret hs).before args s = true) (hini : (Jvm.Cond.initialized y.cls).before args s = true) (h24 : ml ≤ 24) (hI : isI = true → y.name = "<init>")
    (hlen : hs.length = ph.length) (hH : ∀ (j : Nat) x z, hs[j]? = some x → ph[j]? = some z → pv_HOK (mkE B sa xv D cA H0) y.cls x z args s)
    {RT : List (Instr × Nat × Nat × Nat)} (hRT : ∀ q ∈ RT, pv_EK (mkE B sa xv D cA H0) (PP L xs) GG y.cls q args s) (hchk : I.all (pv_ckq RT cb ret) = true) (h4 : ∀ pc idx len r1 r2, (pc, .new idx, len, r1, r2, 4) ∈ I → pv_OK4 (mkE B sa xv D cA H0) (PP L xs) y.cls cb pc idx r1 args s) : pv_MOK (mkE B sa xv D cA H0) (PP L xs) GG M args s := by
  have hmi : pv_mi (PP L xs) M = (isI, ret, ml, ph) := hm
  unfold pv_MOK
  rw [hg, hmi]
  refine ⟨hp, hn, hcode, hini, h24, hI, ⟨hlen, hH⟩, fun pc i len r1 r2 r3 e => ?_⟩
  have e1 : ((insOf M).find? (fun q => q.1 == pc)).map (fun q => q.2) = some (i, len, r1, r2, r3) := e
  rw [hi] at e1
  cases hf : I.find? (fun q => q.1 == pc) with
  | none => rw [hf] at e1; cases e1
  | some q =>
    rw [hf] at e1
    have e2 : q.2 = (i, len, r1, r2, r3) := Option.some.inj e1
    have e3 : q.1 = pc := by have := List.find?_some hf; simpa using this
    have e4 : q = (pc, i, len, r1, r2, r3) := Prod.ext e3 e2
    have hmem := List.mem_of_find?_eq_some hf
    rw [e4] at hmem
    obtain ⟨g1, g2, g3, g4, g5⟩ := pv_ck_sound hRT (List.all_eq_true.mp hchk _ hmem)
    refine ⟨g1, g2, g3, g4, g5, fun idx z1 z2 => ?_⟩
    subst z1; subst z2
    exact h4 pc idx len r1 r2 hmem
theorem pv_cw {y : MethodName} {cb : ByteArray} {ml : Nat} {ret : Option FieldType} (h : (Jvm.Cond.code y cb ml ret).before args s = true) : (Jvm.Cond.codeWith y cb ml ret []).before args s = true := by
  have := Cond.code_iff_codeWith_nil (x := y) (bytes := cb) (maxLocals := ml) (ret := ret) (args := args) (first := s) (o := none) (s := s) (idx := [])
  simp only [Cond.before, Cond.holds] at h ⊢
  rw [← this]
  exact h
theorem pv_no4 {E : pvE} {P : pvP} {own : String} {cb : ByteArray} {I : List (Nat × pvI)} (h : I.all (fun q => decide (q.2.2.2.2.2 ≠ 4)|| !(match q.2.1 with | .new _ => true | _ => false)) = true) : ∀ pc idx len r1 r2, (pc, .new idx, len, r1, r2, 4) ∈ I → pv_OK4 E P own cb pc idx r1 args s := by
  intro pc idx len r1 r2 hm
  have := List.all_eq_true.mp h _ hm
  simp at this
end MOK
