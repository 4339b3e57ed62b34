/-! THE STEP: what pv_step does, the machine does -/
def pv_len : Instr → Option Nat
  | .aload_n _ | .iload_n _ | .lload_n _ | .istore_n _ | .lstore_n _ | .astore_n _ | .iconst _ | .lconst _ | .aconst_null => some 1
  | .iadd | .isub | .imul | .iand | .ior | .ishr | .idiv | .irem | .ladd | .lsub | .lmul | .land | .lor | .ldiv | .lrem | .lneg | .lshl | .lshr | .lushr | .lcmp | .i2l | .i2b | .i2c | .l2i => some 1
  | .dup | .dup2 | .pop | .iaload | .baload | .laload | .aaload | .iastore | .bastore | .lastore | .aastore | .arraylength | .ireturn | .lreturn | .areturn | .return_ | .athrow => some 1
  | .aload _ | .iload _ | .lload _ | .istore _ | .lstore _ | .astore _ | .bipush _ | .ldc _ | .newarray _ => some 2
  | .sipush _ | .ldc_w _ | .ldc2_w _ | .iinc _ _ | .ifCond _ _ | .if_icmp _ _ | .ifnull _ | .goto _ | .getfield _ | .putfield _ | .getstatic _ | .new _ | .anewarray _ | .invokevirtual _ | .invokestatic _ | .invokespecial _ => some 3
  | _ => none
/-- what an instruction's numbers stand for, by the tables -/
def pv_OKi (E : pvE) (P : pvP) (own : String) (pc : Nat) (i : Instr) (r1 r2 r3 : Nat) (args : Array Value) (s : State) : Prop := match i with
  | .ifCond _ off => (pc : Int) + off = (r1 : Int)
  | .if_icmp _ off => (pc : Int) + off = (r1 : Int)
  | .ifnull off => (pc : Int) + off = (r1 : Int)
  | .goto off => (pc : Int) + off = (r1 : Int)
  | .ldc idx => (r3 = 0 → (Jvm.Cond.constant own idx (Int32.ofNat r1)).before args s = true) ∧ (r3 ≠ 0 → r1 < 4294967296 ∧ ∃ tx : String, vk_R own idx tx (pv_sa E r1) s)
  | .ldc_w idx => (r3 = 0 → (Jvm.Cond.constant own idx (Int32.ofNat r1)).before args s = true) ∧ (r3 ≠ 0 → r1 < 4294967296 ∧ ∃ tx : String, vk_R own idx tx (pv_sa E r1) s)
  | .ldc2_w idx => (Jvm.Cond.constantLong own idx (Int64.ofNat r1)).before args s = true
  | .getfield idx => (r1 = 90 ∧ ((r2 = 0 ∧ (Jvm.Cond.fieldLink own idx "java/lang/String" "value" "[B").before args s = true) ∨ (r2 = 1 ∧ (Jvm.Cond.fieldLink own idx "java/lang/String" "coder" "B").before args s = true)) ∧ (pv_cl E)[90]? = none) ∨ (r1 ≠ 90 ∧ pv_fOK E own idx r1 r2 r3 args s)
  | .putfield idx => pv_fOK E own idx r1 r2 r3 args s ∧ (pv_fin P r1 r2 = false ∨ (r3 = 0 ∧ ∀ r : vw_C, (pv_cl E)[r1]? = some r → (r.2.1 r2).1 = own))
  | .getstatic idx => ∃ C n d : String, (Jvm.Cond.fieldLink own idx C n d).before args s = true ∧ (r3 = 0 → va_Z C n d (.int (Int32.ofNat r1)) (fun q => pv_B E ≤ q) s (pv_H0 E)) ∧ (r3 ≠ 0 → va_Z C n d (pv_xv E r1) (fun q => pv_B E ≤ q) s (pv_H0 E))
  | .new idx => r3 ≠ 4 → ∃ r : vw_C, (pv_cl E)[r1]? = some r ∧ r1 < 990 ∧ (∀ k, k < r.2.2 → pv_ft P r1 k ≠ .float) ∧ (Jvm.Cond.classLink own idx r.1).before args s = true ∧ (Jvm.Cond.instantiable r.1 r.2.2).before args s = true ∧ (Jvm.Cond.initialized r.1).before args s = true
  | .newarray a => (Jvm.Cond.arrayClass (newarray.typeOf a)).before args s = true
  | .anewarray idx => (Jvm.Cond.classLink own idx "java/lang/String").before args s = true ∧ (Jvm.Cond.arrayOver (.object "java/lang/String")).before args s = true
  | .invokespecial idx => (r3 = 2 → (Jvm.Cond.methodLink own idx Lib.objectInit).before args s = true ∧ (Jvm.Cond.instanceMethod Lib.objectInit).before args s = true ∧ (Jvm.Cond.code Lib.objectInit ⟨#[0xb1]⟩ 1 none).before args s = true)
  | .invokestatic idx => r3 ≠ 0 → (Jvm.Cond.methodLink own idx arraycopyName).before args s = true ∧ (Jvm.Cond.native arraycopyName).before args s = true ∧ (Jvm.Cond.static arraycopyName).before args s = true ∧ (Jvm.Cond.initialized "java/lang/System").before args s = true
  | _ => True
theorem pv_nx_inv {pc : Nat} {ls : pvL} {h : pvH} {o : Option (List Value)} {pc' : Nat} {ls' : pvL} {st' : List Value} {h' : pvH} (e : pv_nx pc ls h o = some (.inl (pc', ls', st', h'))) : o = some st' ∧ pc' = pc ∧ ls' = ls ∧ h' = h := by
  unfold pv_nx at e
  cases o with
  | none => cases e
  | some v => cases e; exact ⟨rfl, rfl, rfl, rfl⟩
theorem pv_stx_inv {pc : Nat} {ls : pvL} {o : Option (List Value × pvH)} {pc' : Nat} {ls' : pvL} {st' : List Value} {h' : pvH} (e : pv_stx pc ls o = some (.inl (pc', ls', st', h'))) : o = some (st', h') ∧ pc' = pc ∧ ls' = ls := by
  unfold pv_stx at e
  cases o with
  | none => cases e
  | some v => cases e; exact ⟨rfl, rfl, rfl⟩
theorem pv_ii_inv {st st' : List Value} {f : Int32 → Int32 → Option Value} (e : pv_ii st f = some st') : ∃ x y r v, st = .int y :: .int x :: r ∧ f x y = some v ∧ st' = v :: r := by
  unfold pv_ii at e
  split at e
  · rename_i y x r
    cases hf : f x y with
    | none => rw [hf] at e; cases e
    | some v => rw [hf] at e; cases e; exact ⟨x, y, r, v, rfl, hf, rfl⟩
  · cases e
theorem pv_ll_inv {st st' : List Value} {f : Int64 → Int64 → Option Value} (e : pv_ll st f = some st') : ∃ x y r v, st = .long y :: .long x :: r ∧ f x y = some v ∧ st' = v :: r := by
  unfold pv_ll at e
  split at e
  · rename_i y x r
    cases hf : f x y with
    | none => rw [hf] at e; cases e
    | some v => rw [hf] at e; cases e; exact ⟨x, y, r, v, rfl, hf, rfl⟩
  · cases e
theorem pv_li_inv {st st' : List Value} {f : Int64 → Int32 → Option Value} (e : pv_li st f = some st') : ∃ x y r v, st = .int y :: .long x :: r ∧ f x y = some v ∧ st' = v :: r := by
  unfold pv_li at e
  split at e
  · rename_i y x r
    cases hf : f x y with
    | none => rw [hf] at e; cases e
    | some v => rw [hf] at e; cases e; exact ⟨x, y, r, v, rfl, hf, rfl⟩
  · cases e
theorem pv_i_inv {st st' : List Value} {f : Int32 → Option Value} (e : pv_i st f = some st') : ∃ x r v, st = .int x :: r ∧ f x = some v ∧ st' = v :: r := by
  unfold pv_i at e
  split at e
  · rename_i x r
    cases hf : f x with
    | none => rw [hf] at e; cases e
    | some v => rw [hf] at e; cases e; exact ⟨x, r, v, rfl, hf, rfl⟩
  · cases e
theorem pv_l_inv {st st' : List Value} {f : Int64 → Option Value} (e : pv_l st f = some st') : ∃ x r v, st = .long x :: r ∧ f x = some v ∧ st' = v :: r := by
  unfold pv_l at e
  split at e
  · rename_i x r
    cases hf : f x with
    | none => rw [hf] at e; cases e
    | some v => rw [hf] at e; cases e; exact ⟨x, r, v, rfl, hf, rfl⟩
  · cases e
theorem pv_some_inj {α : Type} {a b : α} (e : some a = some b) : b = a := (Option.some.inj e).symm
section PV7
variable {E : pvE} {P : pvP} {p : Program} {l : Launch} {e : Env} {R : Room} {s : State} {m : MethodId} {args : Array Value} {below : List Frame} {meth : Method} {c : Code} {Q : State → Prop} {cc : ByteArray} {nL pc : Nat} {lv : pvL} {st : List Value} {h : pvH}
theorem pg_aloadR (hx : p.tables.exec = Jvm.exec) (hb : c.code = cc) (hxv : pv_xvOK E) {k : Nat} {op : Instr} {len : Nat} (hop : (op = .aload k ∧ len = 2) ∨ ∃ q : Fin 4, op = .aload_n q ∧ len = 1 ∧ (q : Nat) = k) (hd : decode cc pc = .ok (op, len)) {v : Value} (hg : pv_get lv k = some v) (hr : pv_isR v = true)
    (K : pv_Go E p l e R s m args below meth c Q nL (pc + len) lv (v :: st) h) : pv_Go E p l e R s m args below meth c Q nL pc lv st h := by
  intro H locs cells slots ls hR hl
  have ha := pv_at hl hg
  have hk := K H locs cells slots ls hR hl
  rw [List.map_cons] at hk
  rcases hop with ⟨rfl, rfl⟩ | ⟨q, rfl, rfl, hq⟩
  · rcases pv_im_R hxv hr with e1 | ⟨a, e1⟩
    · rw [e1] at ha hk
      exact lv_aloadN hx hb hd ha hk
    · rw [e1] at ha hk
      exact lv_aload hx hb hd ha hk
  · rcases pv_im_R hxv hr with e1 | ⟨a, e1⟩
    · rw [e1] at ha hk
      exact lv_aload_nN hx hb hd hq ha hk
    · rw [e1] at ha hk
      exact lv_aload_n hx hb hd hq ha hk
theorem pg_astoreR (hx : p.tables.exec = Jvm.exec) (hb : c.code = cc) (hxv : pv_xvOK E) {k : Nat} {op : Instr} {len : Nat} (hop : (op = .astore k ∧ len = 2) ∨ ∃ q : Fin 4, op = .astore_n q ∧ len = 1 ∧ (q : Nat) = k) (hd : decode cc pc = .ok (op, len)) {v : Value} (hk : k < nL) (hr : pv_isR v = true)
    (K : pv_Go E p l e R s m args below meth c Q nL (pc + len) (pv_set1 lv k v) st h) : pv_Go E p l e R s m args below meth c Q nL pc lv (v :: st) h := by
  intro H locs cells slots ls hR hl
  rw [List.map_cons]
  have e0 := pv_set1_map hxv lv k v
  rcases hop with ⟨rfl, rfl⟩ | ⟨q, rfl, rfl, hq⟩
  · rcases pv_im_R hxv hr with e1 | ⟨a, e1⟩
    · rw [e1] at e0 ⊢
      exact lv_astoreN hx hb hd hl hk e0 (fun ls' hl' => K H locs cells slots ls' hR hl')
    · rw [e1] at e0 ⊢
      exact lv_astore hx hb hd hl hk e0 (fun ls' hl' => K H locs cells slots ls' hR hl')
  · rcases pv_im_R hxv hr with e1 | ⟨a, e1⟩
    · rw [e1] at e0 ⊢
      exact lv_astore_nN hx hb hd hq hl hk e0 (fun ls' hl' => K H locs cells slots ls' hR hl')
    · rw [e1] at e0 ⊢
      exact lv_astore_n hx hb hd hq hl hk e0 (fun ls' hl' => K H locs cells slots ls' hR hl')
theorem pv_iincs (hx : p.tables.exec = Jvm.exec) (hb : c.code = cc) (hxv : pv_xvOK E) {k : Nat} {n : Int} (hd : decode cc pc = .ok (.iinc k n, 3)) {x : Int32} (hg : pv_get lv k = some (.int x)) (hk : k < nL)
    (K : pv_Go E p l e R s m args below meth c Q nL (pc + 3) (pv_set1 lv k (.int (x + Int32.ofInt n))) st h) : pv_Go E p l e R s m args below meth c Q nL pc lv st h := by
  intro H locs cells slots ls hR hl
  have e0 := pv_set1_map hxv lv k (.int (x + Int32.ofInt n))
  have ha := pv_at hl hg
  unfold pv_get at hg
  cases hf : lv.find? (fun q => q.1 == k) with
  | none => rw [hf] at hg; cases hg
  | some q =>
    rw [hf] at hg
    have hq' : q.2 = .int x := Option.some.inj hg
    have h1 : q.1 = k := by
      have := List.find?_some hf
      simpa using this
    obtain ⟨i, hi⟩ := List.getElem?_of_mem (List.mem_of_find?_eq_some hf)
    have hm : (lv.map (pv_imq E))[i]? = some (k, .int x) := by
      rw [List.getElem?_map, hi]
      show some (q.1, pv_im E q.2) = _
      rw [h1, hq']
      rfl
    exact lv_iinc hx hb hd hl hm rfl hk e0 (fun ls' hl' => K H locs cells slots ls' hR hl')
end PV7
