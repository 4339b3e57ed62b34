/-! INSTRUCTION BY INSTRUCTION: the walk from a pure state, out of the walk from the next one -/
def pv_Go (E : pvE) (p : Program) (l : Launch) (e : Env) (R : Room) (s : State) (m : MethodId) (args : Array Value) (below : List Frame) (meth : Method) (c : Code) (Q : State → Prop) (nL pc : Nat) (lv : pvL) (st : List Value) (h : pvH) : Prop :=
  ∀ (H : Heap) (locs : List Loc) (cells slots : Nat) (ls : Array Slot), pv_Rel E R h H locs cells slots → lv_has ls nL (lv.map (pv_imq E)) → W p l e R s m args below meth c H locs cells slots Q (F0 m pc ls (st.map (pv_im E)))
/-- what the tables say of classes and arrays, at a method's start -/
def pv_KC (E : pvE) (P : pvP) (args : Array Value) (s : State) : Prop :=
  ∀ (ci : Nat) (r : vw_C), (pv_cl E)[ci]? = some r → u_Kn s r.1 r.2.1 r.2.2 ((pv_D E).1 ci) ((pv_D E).2 ci) ∧ (∀ w ∈ u_ws r.1 r.2.1 r.2.2, w.before args s = true) ∧ r.2.2 = pv_nf P ci ∧
    (∀ k, k < r.2.2 → parseFieldDescriptor (r.2.1 k).2.2.1 = some (pv_ft P ci k) ∧ (r.2.1 k).2.2.2 = pv_fin P ci k) ∧ (∀ a, a < r.2.2 → ∀ b, b < r.2.2 → a ≠ b → (r.2.1 a).2.1 ≠ (r.2.1 b).2.1)
def pv_KA (E : pvE) (s : State) : Prop := ∀ t, t < 5 → ArrOfT s (pv_cA E t) (pv_ty t) ∧ va_RA s (pv_cA E t) (pv_ty t)
def pv_KX (E : pvE) (P : pvP) (s : State) : Prop := ∀ j, (pv_xa P j).1 < 10 → ∃ (a : Nat) (cell : Cell), pv_xv E j = .ref a ∧ a < pv_B E ∧ (pv_H0 E)[a]? = some cell ∧ s.isArrayOf cell (pv_ty (pv_xa P j).1) ∧ cell.vm ≠ .unknown ∧ ((pv_xa P j).2.1 ≤ cell.slots.size ∧ cell.slots.size.toInt32 = Int32.ofNat (pv_xa P j).2.1) ∧ ∀ i, i < (pv_xa P j).2.1 → cell.slots[i]? = some (.int ((pv_xa P j).2.2 i))
def pv_KS (E : pvE) (P : pvP) (s : State) : Prop := ∀ j, (pv_xa P (j + 1)).1 = 1 → va_O "java/lang/String" (pv_sa E j) (fun q => pv_B E ≤ q) s (pv_H0 E) ∧ va_OF "java/lang/String" "coder" "B" (.int 0) (pv_sa E j) (fun q => pv_B E ≤ q) s (pv_H0 E) ∧ va_OF "java/lang/String" "value" "[B" (pv_xv E (j + 1)) (pv_sa E j) (fun q => pv_B E ≤ q) s (pv_H0 E)
/-- a field's instruction: the class and the field that it names -/
def pv_fOK (E : pvE) (own : String) (idx ci fk nest : Nat) (args : Array Value) (s : State) : Prop := ∃ r : vw_C, (pv_cl E)[ci]? = some r ∧ ci < 990 ∧ fk < r.2.2 ∧
  ((nest = 0 ∧ (Jvm.Cond.fieldLink own idx (r.2.1 fk).1 (r.2.1 fk).2.1 (r.2.1 fk).2.2.1).before args s = true) ∨ (nest = 1 ∧ ∃ host : String, (Jvm.Cond.fieldLinkNest own idx (r.2.1 fk).1 (r.2.1 fk).2.1 (r.2.1 fk).2.2.1 host).before args s = true))
theorem pv_hset {H : Heap} {a : Nat} {cell cell' : Cell} (h : H[a]? = some cell) : (H.setIfInBounds a cell')[a]? = some cell' ∧ (H.setIfInBounds a cell').size = H.size ∧ ∀ q, q ≠ a → (H.setIfInBounds a cell')[q]? = H[q]? := by
  have hlt : a < H.size := (Array.getElem?_eq_some_iff.mp h).1
  refine ⟨by simp [hlt], by simp, fun q hq => ?_⟩
  rw [Array.getElem?_setIfInBounds_ne (fun z => hq z.symm)]
section PV4
variable {E : pvE} {P : pvP} {p : Program} {l : Launch} {e : Env} {R : Room} {s : State} {m : MethodId} {args : Array Value} {below : List Frame} {meth : Method} {c : Code} {Q : State → Prop} {cc : ByteArray} {nL pc : Nat} {lv : pvL} {st : List Value} {h : pvH}
theorem pg_getf (hx : p.tables.exec = Jvm.exec) (hb : c.code = cc) (hK : pv_KC E P args s) {own : String} (hown : s.vm.findClass own = some m.cls) {idx ci fk nest : Nat} (hf : pv_fOK E own idx ci fk nest args s) (hd : decode cc pc = .ok (.getfield idx, 3)) {k : Nat} (hc : (h.1 k).1 = 10 + ci ∧ k < h.2.1 ∧ fk < (h.1 k).2.1)
    (K : pv_Go E p l e R s m args below meth c Q nL (pc + 3) lv ((h.1 k).2.2 fk :: st) h) : pv_Go E p l e R s m args below meth c Q nL pc lv (.ref k :: st) h := by
  intro H locs cells slots ls hR hl
  obtain ⟨r, hr, h990, hfk, hlink⟩ := hf
  obtain ⟨r', hr', hN, cell, q1, q2, q3, q4⟩ := (hR.2.1 k hc.2.1).obj hc.1 h990
  cases hr.symm.trans hr'
  obtain ⟨⟨hS, hfc, kC, hkC, hkind⟩, hts, -⟩ := hK ci r hr
  obtain ⟨cf, kf, fi, f, hi, hsl⟩ := hS fk hfk
  have hst := (u_facts hfc hkC (u_lays (C := r.1) (T := r.2.1) (N := r.2.2) hts (fun w h => h) hfk) hi).1
  rcases hlink with ⟨-, hlink⟩ | ⟨-, host, hlink⟩
  · exact W.getf hx hb hown hlink hi hst q1 (by rw [q3]; exact fun h => by cases h) (by rw [hsl]; exact q4 fk hfk) (g := F0 m pc ls _) rfl rfl hd (K H locs cells slots ls hR hl)
  · exact va_Wgetf hx hb hown hlink hi hst q1 (by rw [q3]; exact fun h => by cases h) (by rw [hsl]; exact q4 fk hfk) (g := F0 m pc ls _) rfl rfl hd (K H locs cells slots ls hR hl)
theorem pv_fit_im {E : pvE} (hx : pv_xvOK E) {ty : FieldType} {v : Value} (h : pv_fit ty v = true) : narrow ty (pv_im E v) = pv_im E v ∧ fits ty (pv_im E v) = true := by
  have href : ∀ w : Value, (w = .null ∨ ∃ a, w = .ref a) → fits ty .null = true → narrow ty w = w ∧ fits ty w = true := by
    intro w hw hn
    rcases hw with rfl | ⟨a, rfl⟩
    · cases ty <;> first | exact ⟨rfl, hn⟩ | cases hn
    · cases ty <;> first | exact ⟨rfl, rfl⟩ | cases hn
  cases v with
  | int x =>
    simp only [pv_fit, Bool.and_eq_true, decide_eq_true_eq] at h
    exact h
  | long x => exact ⟨(by cases ty <;> first | rfl | cases h), h⟩
  | ref k => exact href _ (Or.inr ⟨_, rfl⟩) h
  | null => exact href _ (Or.inl rfl) h
  | float j => exact href _ (Or.inr ⟨_, rfl⟩) h
  | retAddr j => exact href _ (hx j) h
  | double x => cases h
theorem pg_putf (hx : p.tables.exec = Jvm.exec) (hb : c.code = cc) (hxv : pv_xvOK E) (hK : pv_KC E P args s) {own : String} (hown : s.vm.findClass own = some m.cls) {idx ci fk nest : Nat} (hf : pv_fOK E own idx ci fk nest args s) (hd : decode cc pc = .ok (.putfield idx, 3)) {k : Nat} {v : Value} (hc : (h.1 k).1 = 10 + ci ∧ k < h.2.1 ∧ fk < (h.1 k).2.1)
    (hfit : pv_fit (pv_ft P ci fk) v = true) (hfin : pv_fin P ci fk = false ∨ (nest = 0 ∧ meth.name = "<init>" ∧ ∀ r : vw_C, (pv_cl E)[ci]? = some r → (r.2.1 fk).1 = own))
    (K : pv_Go E p l e R s m args below meth c Q nL (pc + 3) lv st (pv_put h k (10 + ci, (h.1 k).2.1, va_up (h.1 k).2.2 fk v))) : pv_Go E p l e R s m args below meth c Q nL pc lv (v :: .ref k :: st) h := by
  intro H locs cells slots ls hR hl
  obtain ⟨r, hr, h990, hfk, hlink⟩ := hf
  obtain ⟨r', hr', hN, cell, q1, q2, q3, q4⟩ := (hR.2.1 k hc.2.1).obj hc.1 h990
  cases hr.symm.trans hr'
  obtain ⟨hKn, hts, hnf, hty, hnm⟩ := hK ci r hr
  obtain ⟨hS, hfc, kC, hkC, hkind⟩ := id hKn
  have hin : ∀ w ∈ u_ws r.1 r.2.1 r.2.2, w ∈ u_ws r.1 r.2.1 r.2.2 := fun w h => h
  have hap : ∀ x y, x < r.2.2 → y < r.2.2 → x ≠ y → ((pv_D E).2 ci) x ≠ ((pv_D E).2 ci) y := by
    intro x y hx hy hne
    obtain ⟨_, _, _, fa, hia, ea⟩ := hS x hx
    obtain ⟨_, _, _, fb, hib, eb⟩ := hS y hy
    rw [← ea, ← eb]
    refine u_apart (u_lays hts hin hx) (u_lays hts hin hy) hia hib ?_
    rw [(State.fieldFound?_type hia (hty x hx).1).1, (State.fieldFound?_type hib (hty y hy).1).1]
    exact hnm x hx y hy hne
  obtain ⟨cf, kf, fi, f, hi, hsl⟩ := hS fk hfk
  have hst := (u_facts hfc hkC (u_lays (C := r.1) (T := r.2.1) (N := r.2.2) hts hin hfk) hi).1
  obtain ⟨hn, hft⟩ := pv_fit_im (E := E) hxv hfit
  have hlay := hts _ (u_in_lay hfk)
  unfold u_lay at hlay
  have fin : ∀ H' : Heap, H'[pv_B E + k]? = some (cell.setSlot f.slot (pv_im E v)) → H'.size = H.size → (∀ q, q ≠ pv_B E + k → H'[q]? = H[q]?) →
      W p l e R s m args below meth c H' (locs ++ [⟨pv_B E + k, f.slot⟩]) cells slots Q (F0 m (pc + 3) ls (st.map (pv_im E))) := by
    intro H' e1 e2 e3
    refine K H' _ cells slots ls (hR.put (Or.inr (Or.inl ⟨ci, r, rfl, h990, hr, hN, ?_⟩)) e2 e3) hl
    rw [hsl] at e1
    refine t_OB.to (V := updV (fun j => pv_im E ((h.1 k).2.2 j)) fk (pv_im E v)) ⟨_, e1, q2, q3, t_set q4 hap hfk _⟩ (fun j _ => ?_)
    rw [pv_upV]
  have hlt : f.slot < cell.slots.size := by rw [hsl]; exact k2_hasslot (q4 fk hfk)
  by_cases hfi : (r.2.1 fk).2.2.2 = true
  · rw [if_pos hfi] at hlay
    rcases hfin with hfin | ⟨hn0, hini, hdecl⟩
    · rw [(hty fk hfk).2, hfin] at hfi; cases hfi
    · have hcf : m.cls = cf := by
        obtain ⟨_, _, c', _, _, _, -, -, hf', -, -, -, hown2, -⟩ := Cond.laysFinal_spec hlay
        have e1 : c' = cf := by have := hi.symm.trans hf'; simp at this; exact this.1.symm
        rw [hdecl r hr] at hown2
        rw [← e1]; exact Option.some.inj (hown.symm.trans hown2)
      have h6 := u_fits hfc hkC hkind (Or.inr hlay) hi (hty fk hfk).1 hn hft
      rcases hlink with ⟨-, hlink⟩ | ⟨h1, -⟩
      · exact W.putFinK hx hb hown hlink hi hst hcf hini (by rw [q2]; exact h6) q1 q3 hlt (g := F0 m pc ls _) rfl rfl hd fin
      · omega
  · rw [if_neg hfi] at hlay
    have h6 := u_store hfc hkC hkind hlay hi (hty fk hfk).1 hn hft
    rcases hlink with ⟨-, hlink⟩ | ⟨-, host, hlink⟩
    · exact W.putK hx hb (f := f) ⟨hown, hlink, ⟨_, _, _, hi⟩, hst⟩ (by rw [q2]; exact h6) q1 q3 hlt (g := F0 m pc ls _) rfl rfl hd fin
    · exact va_WputK hx hb (f := f) hown hlink hi hst (by rw [q2]; exact h6) q1 q3 hlt (g := F0 m pc ls _) rfl rfl hd fin
/-- a load from an array of ours -/
theorem pv_inN {i : Int32} {n : Nat} (h : pv_in i n = true) : ¬ (i < 0 ∨ n ≤ i.toNatClampNeg) := by
  unfold pv_in at h
  simpa using h
theorem pg_ld (hx : p.tables.exec = Jvm.exec) (hb : c.code = cc) (hA : pv_KA E s) {t : Nat} {op : Instr} (hop : (t = 0 ∧ op = .iaload) ∨ (t = 1 ∧ op = .baload) ∨ (t = 2 ∧ op = .laload) ∨ (t = 3 ∧ op = .baload) ∨ (t = 4 ∧ op = .aaload)) (hd : decode cc pc = .ok (op, 1)) {k : Nat} {i : Int32} (hc : (h.1 k).1 = t ∧ k < h.2.1 ∧ pv_in i (h.1 k).2.1 = true)
    (K : pv_Go E p l e R s m args below meth c Q nL (pc + 1) lv ((h.1 k).2.2 i.toNatClampNeg :: st) h) : pv_Go E p l e R s m args below meth c Q nL pc lv (.int i :: .ref k :: st) h := by
  intro H locs cells slots ls hR hl
  have hin := pv_inN hc.2.2
  have hlt : i.toNatClampNeg < (h.1 k).2.1 := Nat.not_le.mp fun q => hin (Or.inr q)
  have ht5 : t < 5 := by omega
  have hcell := (hR.2.1 k hc.2.1).arr hc.1 (by omega)
  have hin' : ¬ (i < 0 ∨ (arrV (pv_cA E t) (h.1 k).2.1 (fun j => pv_im E ((h.1 k).2.2 j))).slots.size ≤ i.toNatClampNeg) := by rw [arrV_size]; exact hin
  have hv := arrV_read (pv_cA E t) (fun j => pv_im E ((h.1 k).2.2 j)) hlt
  have harr := (hA t ht5).1 (h.1 k).2.1 (fun j => pv_im E ((h.1 k).2.2 j))
  rcases hop with ⟨rfl, rfl⟩ | ⟨rfl, rfl⟩ | ⟨rfl, rfl⟩ | ⟨rfl, rfl⟩ | ⟨rfl, rfl⟩
  · exact W.iald hx hb hcell harr (fun q => by cases q) hin' hv (g := F0 m pc ls _) rfl rfl hd (K H locs cells slots ls hR hl)
  · exact W.bald hx hb hcell harr (fun q => by cases q) hin' hv (g := F0 m pc ls _) rfl rfl hd (K H locs cells slots ls hR hl)
  · exact W.lald hx hb hcell harr (fun q => by cases q) hin' hv (g := F0 m pc ls _) rfl rfl hd (K H locs cells slots ls hR hl)
  · exact W.zald hx hb hcell harr (fun q => by cases q) hin' hv (g := F0 m pc ls _) rfl rfl hd (K H locs cells slots ls hR hl)
  · exact W.aald hx hb hcell harr rfl (fun q => by cases q) hin' hv (g := F0 m pc ls _) rfl rfl hd (K H locs cells slots ls hR hl)
/-- a load from an array from outside -/
theorem pg_ldx (hx : p.tables.exec = Jvm.exec) (hb : c.code = cc) (hX : pv_KX E P s) {t : Nat} {op : Instr} (hop : (t = 0 ∧ op = .iaload) ∨ (t = 1 ∧ op = .baload)) (hd : decode cc pc = .ok (op, 1)) {j : Nat} {i : Int32} (hc : (pv_xa P j).1 = t ∧ pv_in i (pv_xa P j).2.1 = true)
    (K : pv_Go E p l e R s m args below meth c Q nL (pc + 1) lv (.int ((pv_xa P j).2.2 i.toNatClampNeg) :: st) h) : pv_Go E p l e R s m args below meth c Q nL pc lv (.int i :: .retAddr j :: st) h := by
  intro H locs cells slots ls hR hl
  have hin := pv_inN hc.2
  have hlt : i.toNatClampNeg < (pv_xa P j).2.1 := Nat.not_le.mp fun q => hin (Or.inr q)
  obtain ⟨a, cell, h1, h2, h3, h4, h5, h6, h7⟩ := hX j (by omega)
  rw [hc.1] at h4
  have hcell : H[a]? = some cell := (hR.2.2.1 a h2).trans h3
  have e1 : (List.map (pv_im E) (.int i :: .retAddr j :: st)) = .int i :: .ref a :: st.map (pv_im E) := by
    show .int i :: pv_xv E j :: _ = _
    rw [h1]
  rw [e1]
  rcases hop with ⟨rfl, rfl⟩ | ⟨rfl, rfl⟩
  · exact W.iald hx hb hcell h4 h5 (fun q => hin (q.imp id (fun z => Nat.le_trans h6.1 z))) (h7 _ hlt) (g := F0 m pc ls _) rfl rfl hd (K H locs cells slots ls hR hl)
  · exact W.bald hx hb hcell h4 h5 (fun q => hin (q.imp id (fun z => Nat.le_trans h6.1 z))) (h7 _ hlt) (g := F0 m pc ls _) rfl rfl hd (K H locs cells slots ls hR hl)
theorem pg_lenx (hx : p.tables.exec = Jvm.exec) (hb : c.code = cc) (hX : pv_KX E P s) (hd : decode cc pc = .ok (.arraylength, 1)) {j : Nat} (hc : (pv_xa P j).1 < 10)
    (K : pv_Go E p l e R s m args below meth c Q nL (pc + 1) lv (.int (Int32.ofNat (pv_xa P j).2.1) :: st) h) : pv_Go E p l e R s m args below meth c Q nL pc lv (.retAddr j :: st) h := by
  intro H locs cells slots ls hR hl
  obtain ⟨a, cell, h1, h2, h3, h4, h5, h6, h7⟩ := hX j hc
  have hcell : H[a]? = some cell := (hR.2.2.1 a h2).trans h3
  have e1 : (List.map (pv_im E) (.retAddr j :: st)) = .ref a :: st.map (pv_im E) := by
    show pv_xv E j :: _ = _
    rw [h1]
  rw [e1]
  exact W.alen hx hb hcell h4 h6.2 (g := F0 m pc ls _) rfl rfl hd (K H locs cells slots ls hR hl)
theorem pg_len (hx : p.tables.exec = Jvm.exec) (hb : c.code = cc) (hA : pv_KA E s) (hd : decode cc pc = .ok (.arraylength, 1)) {k : Nat} (hc : (h.1 k).1 < 5 ∧ k < h.2.1)
    (K : pv_Go E p l e R s m args below meth c Q nL (pc + 1) lv (.int (Int32.ofNat (h.1 k).2.1) :: st) h) : pv_Go E p l e R s m args below meth c Q nL pc lv (.ref k :: st) h := by
  intro H locs cells slots ls hR hl
  have hcell := (hR.2.1 k hc.2).arr rfl (by omega)
  exact W.alen hx hb hcell ((hA _ hc.1).1 _ _) (by rw [arrV_size] <;> rfl) (g := F0 m pc ls _) rfl rfl hd (K H locs cells slots ls hR hl)
/-- a store into an array of ours -/
theorem pg_st (hx : p.tables.exec = Jvm.exec) (hb : c.code = cc) (hA : pv_KA E s) {t : Nat} {op : Instr} {v w : Value} (hop : (t = 0 ∧ op = .iastore ∧ ∃ x, v = .int x ∧ w = .int x) ∨ (t = 1 ∧ op = .bastore ∧ ∃ x, v = .int x ∧ w = .int (vp_nar .byte x)) ∨ (t = 2 ∧ op = .lastore ∧ ∃ x, v = .long x ∧ w = .long x) ∨ (t = 3 ∧ op = .bastore ∧ ∃ x, v = .int x ∧ w = .int (vp_nar .boolean x)))
    (hd : decode cc pc = .ok (op, 1)) {k : Nat} {i : Int32} (hc : (h.1 k).1 = t ∧ k < h.2.1 ∧ pv_in i (h.1 k).2.1 = true)
    (K : pv_Go E p l e R s m args below meth c Q nL (pc + 1) lv st (pv_put h k (t, (h.1 k).2.1, va_up (h.1 k).2.2 i.toNatClampNeg w))) : pv_Go E p l e R s m args below meth c Q nL pc lv (v :: .int i :: .ref k :: st) h := by
  intro H locs cells slots ls hR hl
  have hin := pv_inN hc.2.2
  have ht5 : t < 5 := by omega
  have hcell := (hR.2.1 k hc.2.1).arr hc.1 (by omega)
  have hin' : ¬ (i < 0 ∨ (arrV (pv_cA E t) (h.1 k).2.1 (fun j => pv_im E ((h.1 k).2.2 j))).slots.size ≤ i.toNatClampNeg) := by rw [arrV_size]; exact hin
  have harr := (hA t ht5).1 (h.1 k).2.1 (fun j => pv_im E ((h.1 k).2.2 j))
  have fin : ∀ H' : Heap, H'[pv_B E + k]? = some ((arrV (pv_cA E t) (h.1 k).2.1 (fun j => pv_im E ((h.1 k).2.2 j))).setSlot i.toNatClampNeg (pv_im E w)) → H'.size = H.size → (∀ q, q ≠ pv_B E + k → H'[q]? = H[q]?) →
      W p l e R s m args below meth c H' (locs ++ [⟨pv_B E + k, i.toNatClampNeg⟩]) cells slots Q (F0 m (pc + 1) ls (st.map (pv_im E))) := by
    intro H' e1 e2 e3
    refine K H' _ cells slots ls (hR.put (Or.inl ⟨⟨by show t < 10; omega, ?_⟩, ?_⟩) e2 e3) hl
    · intro (t0 : t = 0) j
      have h0 := (hR.2.1 k hc.2.1).ints (hc.1.trans t0)
      show ∃ x, va_up (h.1 k).2.2 i.toNatClampNeg w j = .int x
      unfold va_up
      split
      · rcases hop with ⟨-, -, x, -, rfl⟩ | ⟨t1, -⟩ | ⟨t1, -⟩ | ⟨t1, -⟩
        · exact ⟨x, rfl⟩
        · omega
        · omega
        · omega
      · exact h0 j
    · rw [e1, arrV_store, pv_upV]
  rcases hop with ⟨rfl, rfl, x, rfl, rfl⟩ | ⟨rfl, rfl, x, rfl, rfl⟩ | ⟨rfl, rfl, x, rfl, rfl⟩ | ⟨rfl, rfl, x, rfl, rfl⟩
  · exact W.iast hx hb hcell harr (fun q => by cases q) hin' (g := F0 m pc ls _) rfl rfl hd fin
  · exact W.bast hx hb hcell harr (fun q => by cases q) hin' (g := F0 m pc ls _) rfl rfl hd fin
  · exact W.last hx hb hcell harr (fun q => by cases q) hin' (g := F0 m pc ls _) rfl rfl hd fin
  · exact W.zast hx hb hcell harr (fun q => by cases q) hin' (g := F0 m pc ls _) rfl rfl hd fin
/-- a String constant into an array of Strings -/
theorem pg_aast (hx : p.tables.exec = Jvm.exec) (hb : c.code = cc) (hA : pv_KA E s) (hS : pv_KS E P s) (hSc : ∃ (cS : ClassId) (kS : Class), s.vm.findClass "java/lang/String" = some cS ∧ s.vm.classes[cS]? = some kS) {j : UInt32} (hj : (pv_xa P (j.toNat + 1)).1 = 1)
    (hd : decode cc pc = .ok (.aastore, 1)) {k : Nat} {i : Int32} (hc : (h.1 k).1 = 4 ∧ k < h.2.1 ∧ pv_in i (h.1 k).2.1 = true)
    (K : pv_Go E p l e R s m args below meth c Q nL (pc + 1) lv st (pv_put h k (4, (h.1 k).2.1, va_up (h.1 k).2.2 i.toNatClampNeg (.float j)))) : pv_Go E p l e R s m args below meth c Q nL pc lv (.float j :: .int i :: .ref k :: st) h := by
  intro H locs cells slots ls hR hl
  have hin := pv_inN hc.2.2
  have hcell := (hR.2.1 k hc.2.1).arr hc.1 (by omega)
  obtain ⟨kA, comp, r1, r2, r3, r4⟩ := (hA 4 (by omega)).2
  obtain ⟨⟨cv, o1, o2, o3, o4⟩, -⟩ := hS j.toNat hj
  obtain ⟨cS, kS, c1, c2⟩ := hSc
  have e0 : cv.cls = cS := Option.some.inj (o3.symm.trans c1)
  have e1 : comp = cS := Option.some.inj (r3.symm.trans c1)
  have hcv : H[pv_sa E j.toNat]? = some cv := (hR.2.2.1 _ (by omega)).trans o1
  refine W.aast hx hb hcell (fun q z => by cases z) (fun z => by cases z) r1 r2 rfl (by rw [e1]; exact c2) ⟨fun z => hin (Or.inl z), by rw [arrV_size]; exact Nat.not_le.mp fun q => hin (Or.inr q)⟩ hcv (fun q z => by rw [z] at o2; cases o2) (by rw [e0]; exact c2) (by rw [e0, e1]; exact va_asg _ _) (g := F0 m pc ls _) rfl rfl hd ?_
  intro H' e1 e2 e3
  refine K H' _ cells slots ls (hR.put (Or.inl ⟨⟨by show 4 < 10; omega, fun z => by cases z⟩, ?_⟩) e2 e3) hl
  rw [e1, arrV_store]
  have := pv_upV (E := E) (f := (h.1 k).2.2) (k := i.toNatClampNeg) (x := .float j)
  rw [← this]
  rfl
end PV4
