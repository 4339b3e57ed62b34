section PV6
variable {E : pvE} {P : pvP} {p : Program} {l : Launch} {e : Env} {R : Room} {s : State} {m : MethodId} {args : Array Value} {below : List Frame} {meth : Method} {c : Code} {Q : State → Prop} {cc : ByteArray} {nL pc : Nat} {lv : pvL} {st : List Value} {h : pvH}
theorem pv_keep {H : Heap} {locs : List Loc} {cells slots : Nat} (hR : pv_Rel E R h H locs cells slots) : ∀ a : Nat, a < (pv_H0 E).size → ¬ (pv_B E ≤ a) → H[a]? = (pv_H0 E)[a]? := fun a _ h2 => hR.2.2.1 a (Nat.not_le.mp h2)
/-- a field of a String constant -/
theorem pg_getS (hx : p.tables.exec = Jvm.exec) (hb : c.code = cc) {own n d : String} {v : Value} (hown : s.vm.findClass own = some m.cls) {idx : Nat} {j : UInt32} (hE : va_OF "java/lang/String" n d (pv_im E v) (pv_sa E j.toNat) (fun q => pv_B E ≤ q) s (pv_H0 E))
    (hlink : (Jvm.Cond.fieldLink own idx "java/lang/String" n d).before args s = true) (hd : decode cc pc = .ok (.getfield idx, 3))
    (K : pv_Go E p l e R s m args below meth c Q nL (pc + 3) lv (v :: st) h) : pv_Go E p l e R s m args below meth c Q nL pc lv (.float j :: st) h := by
  intro H locs cells slots ls hR hl
  obtain ⟨cf, k, fi, f, cell, h1, h2, h3, h4, h5, h6⟩ := hE.kept (pv_keep hR)
  exact W.getf hx hb hown hlink h1 h2 h3 h4 h5 (g := F0 m pc ls _) rfl rfl hd (K H locs cells slots ls hR hl)
/-- a static field of the JDK -/
theorem pg_gets (hx : p.tables.exec = Jvm.exec) (hb : c.code = cc) {own C n d : String} {v : Value} (hown : s.vm.findClass own = some m.cls) {idx : Nat} (hZ : va_Z C n d (pv_im E v) (fun q => pv_B E ≤ q) s (pv_H0 E))
    (hlink : (Jvm.Cond.fieldLink own idx C n d).before args s = true) (hd : decode cc pc = .ok (.getstatic idx, 3))
    (K : pv_Go E p l e R s m args below meth c Q nL (pc + 3) lv (v :: st) h) : pv_Go E p l e R s m args below meth c Q nL pc lv st h := by
  intro H locs cells slots ls hR hl
  obtain ⟨cf, kf, fi, f, a, cell, h1, h2, h3, h4, h5, h6, h7, h8⟩ := hZ
  have hlt : a < (pv_H0 E).size := (Array.getElem?_eq_some_iff.mp h5).1
  exact W.gets hx hb hown hlink h1 h2 h3 h4 ((pv_keep hR a hlt h8).trans h5) (fun q => by rw [q] at h6; cases h6) h7 (g := F0 m pc ls _) rfl hd (K H locs cells slots ls hR hl)
theorem pv_catm (hxv : pv_xvOK E) (r : List Value) : ((r.map (pv_im E)).map fun v => v.category).sum = (r.map Value.category).sum := by
  induction r with
  | nil => rfl
  | cons a r ih =>
    simp only [List.map_cons, List.sum_cons]
    rw [ih, pv_im_cat hxv]
theorem pg_oinit (hx : p.tables.exec = Jvm.exec) (hb : c.code = cc) (hxv : pv_xvOK E) (hml : c.maxLocals = nL) {own : String} (hown : s.vm.findClass own = some m.cls) {idx : Nat} (hl1 : (Jvm.Cond.methodLink own idx Lib.objectInit).before args s = true) (hl2 : (Jvm.Cond.instanceMethod Lib.objectInit).before args s = true) (hl3 : (Jvm.Cond.code Lib.objectInit ⟨#[0xb1]⟩ 1 none).before args s = true)
    (hRo : 1 ≤ R.frames ∧ 60 ≤ R.locals) (hd : decode cc pc = .ok (.invokespecial idx, 3)) {k : Nat} (hc : (st.map Value.category).sum ≤ 24)
    (K : pv_Go E p l e R s m args below meth c Q nL (pc + 3) lv st h) : pv_Go E p l e R s m args below meth c Q nL pc lv (.ref k :: st) h := by
  intro H locs cells slots ls hR hl
  exact W.objInit hx hb hown hl1 hl2 hl3 (g := F0 m pc ls _) rfl (by rw [hml]; exact hl.1) rfl hd hRo.1 (by rw [pv_catm hxv]; show 2 * 0 + _ + 12 ≤ _; omega) (K H locs cells slots ls hR hl)
theorem pg_copy (hx : p.tables.exec = Jvm.exec) (hb : c.code = cc) (hxv : pv_xvOK E) (hml : c.maxLocals = nL) (hA : pv_KA E s) {own : String} (hown : s.vm.findClass own = some m.cls) {idx : Nat} (hlink : (Jvm.Cond.methodLink own idx arraycopyName).before args s = true) (hnat : (Jvm.Cond.native arraycopyName).before args s = true) (hstat : (Jvm.Cond.static arraycopyName).before args s = true) (hini : (Jvm.Cond.initialized "java/lang/System").before args s = true)
    (hRo : 1 ≤ R.frames ∧ 60 ≤ R.locals) (hd : decode cc pc = .ok (.invokestatic idx, 3)) {k d : Nat} {n dp sp : Int32} (hc : (h.1 k).1 = 0 ∧ k < h.2.1 ∧ (h.1 d).1 = 0 ∧ d < h.2.1 ∧ k ≠ d)
    (hn : (st.map Value.category).sum ≤ 24 ∧ ¬ n < 0 ∧ ¬ dp < 0 ∧ ¬ sp < 0 ∧ sp.toNatClampNeg + n.toNatClampNeg ≤ (h.1 k).2.1 ∧ dp.toNatClampNeg + n.toNatClampNeg ≤ (h.1 d).2.1)
    (K : pv_Go E p l e R s m args below meth c Q nL (pc + 3) lv st (pv_put h d (0, (h.1 d).2.1, va_cpy (h.1 k).2.2 (h.1 d).2.2 sp.toNatClampNeg dp.toNatClampNeg n.toNatClampNeg))) : pv_Go E p l e R s m args below meth c Q nL pc lv (.int n :: .int dp :: .ref d :: .int sp :: .ref k :: st) h := by
  intro H locs cells slots ls hR hl
  obtain ⟨hw, h3, h2, h1, h4, h5⟩ := hn
  have nn : ∀ z : Int32, ¬ z < 0 → z.toInt = (z.toNatClampNeg : Int) := by
    intro z hz
    have hz0 : (0 : Int) ≤ z.toInt := by
      have := Int32.not_lt.mp hz
      simpa using Int32.le_iff_toInt_le.mp this
    show z.toInt = ((z.toInt.toNat : Nat) : Int)
    omega
  have hc0 := (hR.2.1 k hc.2.1).arr hc.1 (by omega)
  have hc1 := (hR.2.1 d hc.2.2.2.1).arr hc.2.2.1 (by omega)
  have hi0 := (hR.2.1 k hc.2.1).ints hc.1
  have hi1 := (hR.2.1 d hc.2.2.2.1).ints hc.2.2.1
  intro T hT X
  obtain ⟨-, k0, hk0, cm0, hkk0⟩ := (hA 0 (by omega)).1 (h.1 k).2.1 (fun j => pv_im E ((h.1 k).2.2 j))
  obtain ⟨-, k1, hk1, cm1, hkk1⟩ := (hA 0 (by omega)).1 (h.1 d).2.1 (fun j => pv_im E ((h.1 d).2.2 j))
  obtain ⟨vm', X', step⟩ := X.arraycopy hx hown hlink hnat hstat hini (src := pv_B E + k) (dst := pv_B E + d) (cs := arrV (pv_cA E 0) (h.1 k).2.1 (fun j => pv_im E ((h.1 k).2.2 j))) (cd := arrV (pv_cA E 0) (h.1 d).2.1 (fun j => pv_im E ((h.1 d).2.2 j))) (srcPos := sp) (destPos := dp) (n := n) (by rw [hT]; exact hc0) (by rw [hT]; exact hc1)
    (fun _ h => by cases h) (fun _ h => by cases h) (fun h => by cases h) (fun h => by cases h) hk0 hk1 hkk0 hkk1 (by simp [refKind, pv_ty]) h1 h2 h3
    (by rw [nn sp h1, nn n h3, arrV_size]; omega)
    (by rw [nn dp h2, nn n h3, arrV_size]; omega)
    (fun vm₁ _ i hi => by
      obtain ⟨x, hx9⟩ := hi0 (sp.toNatClampNeg + i)
      have e : (arrV (pv_cA E 0) (h.1 k).2.1 (fun j => pv_im E ((h.1 k).2.2 j))).slots.getD (sp.toNatClampNeg + i) .null = .int x := by
        rw [Array.getD_eq_getD_getElem?, arrV_read _ _ (by omega)]
        show pv_im E ((h.1 k).2.2 _) = _
        rw [hx9]
        rfl
      refine ⟨?_, ?_⟩
      · rw [e]
        rfl
      · rw [e]
        exact trivial)
    (g := F0 m pc ls _) rfl (by rw [hml]; exact hl.1) (rest := st.map (pv_im E)) rfl (by rw [hb]; exact hd) hRo.1 (by
      rw [pv_catm hxv]
      have : nativeFrameWords "java/lang/System" "arraycopy" 5 ≤ 20 := by decide +kernel
      show 2 * 0 + _ + _ ≤ _
      omega)
  have e1 : copied (arrV (pv_cA E 0) (h.1 k).2.1 (fun j => pv_im E ((h.1 k).2.2 j))) (arrV (pv_cA E 0) (h.1 d).2.1 (fun j => pv_im E ((h.1 d).2.2 j))) sp dp n = arrV (pv_cA E 0) (h.1 d).2.1 (fun j => pv_im E (va_cpy (h.1 k).2.2 (h.1 d).2.2 sp.toNatClampNeg dp.toNatClampNeg n.toNatClampNeg j)) := va_copied (pv_im E) (pv_cA E 0) (pv_cA E 0) (h.1 k).2.2 (h.1 d).2.2 h4
  rw [e1] at X' step
  obtain ⟨s1, s2, s3⟩ := pv_hset (cell' := arrV (pv_cA E 0) (h.1 d).2.1 (fun j => pv_im E (va_cpy (h.1 k).2.2 (h.1 d).2.2 sp.toNatClampNeg dp.toNatClampNeg n.toNatClampNeg j))) hc1
  have hrel := hR.put (i := 0) (c := (0, (h.1 d).2.1, va_cpy (h.1 k).2.2 (h.1 d).2.2 sp.toNatClampNeg dp.toNatClampNeg n.toNatClampNeg)) (Or.inl ⟨⟨by show 0 < 10; omega, fun _ j => by
      show ∃ x, va_cpy _ _ _ _ _ j = _
      unfold va_cpy
      split
      · exact hi0 _
      · exact hi1 _⟩, s1⟩) s2 s3
  have hheap : ((T.setVm vm').setCell (pv_B E + d) (arrV (pv_cA E 0) (h.1 d).2.1 (fun j => pv_im E (va_cpy (h.1 k).2.2 (h.1 d).2.2 sp.toNatClampNeg dp.toNatClampNeg n.toNatClampNeg j)))).heap = H.setIfInBounds (pv_B E + d) (arrV (pv_cA E 0) (h.1 d).2.1 (fun j => pv_im E (va_cpy (h.1 k).2.2 (h.1 d).2.2 sp.toNatClampNeg dp.toNatClampNeg n.toNatClampNeg j))) := by rw [← hT]; rfl
  obtain ⟨t, a1, b1⟩ := K _ _ cells slots ls ⟨hrel.1, hrel.2.1, hrel.2.2.1, (fun q hq => by
      rcases List.mem_append.mp hq with h | h
      · exact hR.2.2.2.1 q h
      · obtain ⟨z, -, hz⟩ := List.mem_map.mp h
        rw [← hz]
        show pv_B E ≤ pv_B E + d
        omega), hrel.2.2.2.2.1, hrel.2.2.2.2.2⟩ hl _ hheap X'
  exact ⟨t, step t a1, b1⟩
end PV6
