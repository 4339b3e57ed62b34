section PV5
variable {E : pvE} {P : pvP} {p : Program} {l : Launch} {e : Env} {R : Room} {s : State} {m : MethodId} {args : Array Value} {below : List Frame} {meth : Method} {c : Code} {Q : State → Prop} {cc : ByteArray} {nL pc : Nat} {lv : pvL} {st : List Value} {h : pvH}
theorem pv_im_def {E : pvE} (ty : FieldType) : pv_im E (defaultValue ty) = defaultValue ty ∨ ∃ x, defaultValue ty = .float x := by
  cases ty <;> first | exact Or.inl rfl | exact Or.inr ⟨_, rfl⟩
theorem pg_new (hx : p.tables.exec = Jvm.exec) (hb : c.code = cc) (hK : pv_KC E P args s) {own : String} (hown : s.vm.findClass own = some m.cls) {idx ci : Nat} {r : vw_C} (hr : (pv_cl E)[ci]? = some r) (h990 : ci < 990) (hnf : ∀ k, k < r.2.2 → pv_ft P ci k ≠ .float)
    (hlink : (Jvm.Cond.classLink own idx r.1).before args s = true) (hinst : (Jvm.Cond.instantiable r.1 r.2.2).before args s = true) (hini : (Jvm.Cond.initialized r.1).before args s = true)
    (hd : decode cc pc = .ok (.new idx, 3)) (hl : 1 ≤ h.2.2.1 ∧ pv_nf P ci ≤ h.2.2.2)
    (K : pv_Go E p l e R s m args below meth c Q nL (pc + 3) lv (.ref h.2.1 :: st) (pv_new h (10 + ci, pv_nf P ci, fun j => defaultValue (pv_ft P ci j)))) : pv_Go E p l e R s m args below meth c Q nL pc lv st h := by
  intro H locs cells slots ls hR hls
  obtain ⟨hKn, hts, hnf', hty, hnm⟩ := hK ci r hr
  have hsz := hR.1
  refine W.newcK hx hb hown hlink hinst hini (g := F0 m pc ls _) rfl hd (by have := hR.2.2.2.2.1; omega) (by have := hR.2.2.2.2.2; omega) hKn.2.1 rfl fun H1 kC hkC e1 z1 o1 => ?_
  have hob := u_born (fun k => pv_ft P ci k) hts (fun w h => h) hKn hkC e1 (fun k hk => (hty k hk).1)
  have hob2 : t_OB (pv_B E + h.2.1) ((pv_D E).1 ci) r.2.2 ((pv_D E).2 ci) H1 (fun j => pv_im E (defaultValue (pv_ft P ci j))) := by
    rw [← hsz]
    refine t_OB.to hob (fun k hk => ?_)
    rcases pv_im_def (E := E) (pv_ft P ci k) with q | ⟨x, q⟩
    · exact q.symm
    · exfalso
      have := hnf k hk
      cases ht : pv_ft P ci k <;> rw [ht] at q <;> first | (exact this ht) | cases q
  have hc2 : pv_cellR E (10 + ci, pv_nf P ci, fun j => defaultValue (pv_ft P ci j)) (pv_B E + h.2.1) H1 := Or.inr (Or.inl ⟨ci, r, rfl, h990, hr, hnf', hob2⟩)
  have := K H1 locs (cells + 1) (slots + pv_nf P ci) ls (hR.new hl hc2 z1 o1) hls
  rw [hnf']
  rw [hsz]
  exact this
theorem pg_newa (hx : p.tables.exec = Jvm.exec) (hb : c.code = cc) (hA : pv_KA E s) {a : ArrayType} {t : Nat} {v : Value} (ha : pv_aty a = some (t, v)) (harr : (Jvm.Cond.arrayClass (newarray.typeOf a)).before args s = true)
    (hd : decode cc pc = .ok (.newarray a, 2)) {n : Int32} (hn : ¬ n < 0 ∧ n.toNatClampNeg ≤ 10000000) (hl : 1 ≤ h.2.2.1 ∧ n.toNatClampNeg ≤ h.2.2.2)
    (K : pv_Go E p l e R s m args below meth c Q nL (pc + 2) lv (.ref h.2.1 :: st) (pv_new h (t, n.toNatClampNeg, fun _ => v))) : pv_Go E p l e R s m args below meth c Q nL pc lv (.int n :: st) h := by
  intro H locs cells slots ls hR hls
  have hsz := hR.1
  have hbytes : n.toNatClampNeg * componentBytes (newarray.typeOf a) ≤ 536870912 := by
    have h8 : componentBytes (newarray.typeOf a) ≤ 8 := by cases a <;> decide
    have := Nat.mul_le_mul hn.2 h8
    omega
  refine va_newaK hx hb harr (g := F0 m pc ls _) rfl hd rfl hn.1 rfl hbytes (by have := hR.2.2.2.2.1; omega) (by have := hR.2.2.2.2.2; omega) rfl fun H1 cA e1 z1 o1 hof hfind => ?_
  have key : t < 5 ∧ pv_ty t = newarray.typeOf a ∧ defaultValue (newarray.typeOf a) = v ∧ pv_im E v = v ∧ (t = 0 → ∃ x, v = .int x) := by
    cases a <;> simp only [pv_aty, Option.some.injEq, Prod.mk.injEq, reduceCtorEq] at ha <;> obtain ⟨rfl, rfl⟩ := ha <;> exact ⟨by decide, rfl, rfl, rfl, fun z => by first | exact ⟨_, rfl⟩ | cases z⟩
  obtain ⟨k1, k2, k3, k4, k5⟩ := key
  have hcA : cA = pv_cA E t := by
    have h2 := (hA t k1).2
    rw [k2] at h2
    cases a <;> first | exact Option.some.inj (hfind.symm.trans h2)
  have hc2 : pv_cellR E (t, n.toNatClampNeg, fun _ => v) (pv_B E + h.2.1) H1 := by
    refine Or.inl ⟨⟨by show t < 10; omega, fun (z : t = 0) j => k5 z⟩, ?_⟩
    show H1[pv_B E + h.2.1]? = some (arrV (pv_cA E t) n.toNatClampNeg (fun j => pv_im E v))
    rw [← hsz, e1, hcA, k3, k4]
  have := K H1 locs (cells + 1) (slots + n.toNatClampNeg) ls (hR.new hl hc2 z1 o1) hls
  rw [hsz]
  exact this
theorem pg_anew (hx : p.tables.exec = Jvm.exec) (hb : c.code = cc) (hA : pv_KA E s) {own : String} (hown : s.vm.findClass own = some m.cls) {idx : Nat} (hlink : (Jvm.Cond.classLink own idx "java/lang/String").before args s = true) (hover : (Jvm.Cond.arrayOver (.object "java/lang/String")).before args s = true)
    (hd : decode cc pc = .ok (.anewarray idx, 3)) {n : Int32} (hn : ¬ n < 0 ∧ n.toNatClampNeg ≤ 10000000) (hl : 1 ≤ h.2.2.1 ∧ n.toNatClampNeg ≤ h.2.2.2)
    (K : pv_Go E p l e R s m args below meth c Q nL (pc + 3) lv (.ref h.2.1 :: st) (pv_new h (4, n.toNatClampNeg, fun _ => .null))) : pv_Go E p l e R s m args below meth c Q nL pc lv (.int n :: st) h := by
  intro H locs cells slots ls hR hls
  have hsz := hR.1
  refine W.anew hx hb hown hlink hover (g := F0 m pc ls _) rfl hd rfl hn.1 (by omega) (by have := hR.2.2.2.2.1; omega) (by have := hR.2.2.2.2.2; omega) fun cA kA comp r1 r2 r3 r4 => ?_
  obtain ⟨kA', comp', q1, q2, q3, q4⟩ := (hA 4 (by omega)).2
  have hcA : cA = pv_cA E 4 := Option.some.inj (r1.symm.trans q4)
  have hc2 : pv_cellR E (4, n.toNatClampNeg, fun _ => .null) (pv_B E + h.2.1) (H.push { cls := cA, slots := Array.replicate n.toNatClampNeg .null, vm := .none }) := by
    refine Or.inl ⟨⟨by show 4 < 10; omega, fun z => by cases z⟩, ?_⟩
    show (H.push _)[pv_B E + h.2.1]? = some (arrV (pv_cA E 4) n.toNatClampNeg (fun j => Value.null))
    rw [← hsz, hcA, arrV_new]
    simp
  have := K _ locs (cells + 1) (slots + n.toNatClampNeg) ls (hR.new hl hc2 (by simp) (fun q hq => by rw [Array.getElem?_push_lt hq, Array.getElem?_eq_getElem hq])) hls
  rw [hsz]
  exact this
theorem pg_ldcS (hx : p.tables.exec = Jvm.exec) (hb : c.code = cc) {own tx : String} (hown : s.vm.findClass own = some m.cls) {idx j : Nat} (hj : j < 4294967296) (hZ : vk_R own idx tx (pv_sa E j) s) (hd : decode cc pc = .ok (.ldc idx, 2))
    (K : pv_Go E p l e R s m args below meth c Q nL (pc + 2) lv (.float (UInt32.ofNat j) :: st) h) : pv_Go E p l e R s m args below meth c Q nL pc lv st h := by
  intro H locs cells slots ls hR hls
  have e1 : (UInt32.ofNat j).toNat = j := by simp [UInt32.toNat_ofNat]; omega
  have := K H locs cells slots ls hR hls
  have e2 : List.map (pv_im E) (.float (UInt32.ofNat j) :: st) = .ref (pv_sa E j) :: st.map (pv_im E) := by
    show Value.ref (pv_sa E (UInt32.ofNat j).toNat) :: _ = _
    rw [e1]
  rw [e2] at this
  exact va_ldcS hx hb hown hZ hd this
theorem pv_ldcwS {T : State} {locs : List Loc} {cells slots : Nat} (X : Stand p l e R s m args below meth c T locs cells slots) (hexec : p.tables.exec = Jvm.exec) {own text : String} {index : Nat} {a : Addr} (hown : s.vm.findClass own = some m.cls)
    (hconst : (Jvm.Cond.stringRef own index text).before args s = true) (hev : (Term.string own index).eval args s none [] s = some (.ref a)) {g : JFrame} (hg : g.method = m) (hdg : decode c.code g.pc = .ok (.ldc_w index, 3)) :
    ∀ target, Steps p.tables e below (T.setTop { g with pc := g.pc + 3, stack := .ref a :: g.stack }) target → Steps p.tables e below (T.setTop g) target := by
  obtain ⟨k, cf, i, a', hk, hcf, hcp, -, hr, hev'⟩ := Cond.stringRef_spec hown hconst
  cases hev.symm.trans hev'
  obtain ⟨k', hk', he⟩ := X.warmed.alike.2.2 _ _ hk
  have hr' : k'.resolved[index]? = some (some (.string a)) := by
    rcases X.warmed.entry hk hk' index with h | ⟨h, -⟩
    · rw [h]; exact hr
    · rw [hr] at h; cases h
  intro target hrest
  subst hg
  jvm_step X.here [hexec, hdg, ldc_w.wp_string (e := e) (s := T) (f := g) X.here.top hk' (by rw [he]; exact hcf) hcp hr']
  exact hrest
theorem pg_ldcwS (hx : p.tables.exec = Jvm.exec) (hb : c.code = cc) {own tx : String} (hown : s.vm.findClass own = some m.cls) {idx j : Nat} (hj : j < 4294967296) (hZ : vk_R own idx tx (pv_sa E j) s) (hd : decode cc pc = .ok (.ldc_w idx, 3))
    (K : pv_Go E p l e R s m args below meth c Q nL (pc + 3) lv (.float (UInt32.ofNat j) :: st) h) : pv_Go E p l e R s m args below meth c Q nL pc lv st h := by
  intro H locs cells slots ls hR hls
  have e1 : (UInt32.ofNat j).toNat = j := by simp [UInt32.toNat_ofNat]; omega
  have hk := K H locs cells slots ls hR hls
  have e2 : List.map (pv_im E) (.float (UInt32.ofNat j) :: st) = .ref (pv_sa E j) :: st.map (pv_im E) := by
    show Value.ref (pv_sa E (UInt32.ofNat j).toNat) :: _ = _
    rw [e1]
  rw [e2] at hk
  intro T hT X
  obtain ⟨t, a1, b1⟩ := hk T hT X
  exact ⟨t, pv_ldcwS X hx hown (text := tx) (a := pv_sa E j) hZ.1 hZ.2 (g := F0 m pc ls _) rfl (by rw [hb]; exact hd) t a1, b1⟩
end PV5
