/-! THE CLAIM OUT OF ONE PURE RUN (rows of the SKELETON's end, turned to the pure machine) -/
def R_law : String := "RegionHouseLaw"
/-- what is left: the pure machine runs the law to 'true' -/
def PURE : Prop := ∀ (L : Nat) (xs : Nat → Int32), L ≤ 256 → ∃ (n : Nat) (h' : pvH), pv_exec (PP L xs) n 1500 441 0 (lv_args 0 [.retAddr 0]) [] (fun _ => (0, 0, fun _ => .null), 0, 147880, 8648370) = some (.inl (some (.int 1)), h')
def lw_P (b : Addr) (xs : List Int32) (args : Array Value) (s : State) : Prop := args = #[.ref b] ∧ s.IntsAt b xs ∧ xs.length ≤ 256 ∧ (Jvm.Cond.and given_1 narrow_1).before args s = true
def lw_Q (_ : Array Value) (s : State) (o : Outcome) (t : State) : Prop := o = .returned (some (.int 1)) ∧ Framed s o t [] 147880 8648370
def lw_Z (below : List Frame) (a : Array Value) (s : State) : State → Prop := fun t => ∃ o, t.status = .running ∧ Ended t below o ∧ lw_Q a s o t
def lw_At (p : Program) (s : State) (m : MethodId) (meth : Method) (c : Code) (b L : Nat) (xs : Nat → Int32) : Prop :=
  p.tables.exec = Jvm.exec ∧ c.code = code ∧ meth.sig.returnType = ret ∧ c.maxLocals = 7 ∧ s.vm.findClass R_law = some m.cls ∧ (∀ w ∈ lw_tbl, w.before #[Value.ref b] s = true) ∧ va_X b L xs s s.heap ∧ b < s.heap.size ∧ meth.locks = false ∧ (Jvm.Cond.and given_1 narrow_1).before #[Value.ref b] s = true ∧
  (Jvm.Cond.code x code maxLocals ret).before #[Value.ref b] s = true ∧ c.exceptionTable.isEmpty = true
theorem st_tag : ∀ j, j < 23 → (xaL.getD j (11, 0, fun _ => 0)).1 = 1 := by decide +kernel
def st_xvf (b : Nat) (ta : Nat → Nat) (z : Value) (j : Nat) : Value := if j = 0 then .ref b else if j = 99 then z else if j ≤ 23 then .ref (ta (j - 1)) else .null
set_option maxHeartbeats 4000000 in
theorem whole_start {p : Program} {e : Env} {s : State} {m : MethodId} {below : List Frame} {meth : Method} {c : Code} (hP : PURE) (l : Launch) (hfl : l.flags = flags0) {b L : Nat} {xs : Nat → Int32} (hL : L ≤ 256) (C0 : lw_At p s m meth c b L xs) : W p l e room_1 s m #[Value.ref b] below meth c s.heap [] 0 0 (lw_Z below #[Value.ref b] s) (entryFrame m ([Value.ref b] : List Value).toArray 7) := by
  obtain ⟨hx, hb, hr, hml, hown, hts, hX, hbl, hlocks, hgv, hcw, hex⟩ := C0
  have hs := flat_of_before _ hgv
  have hA : ∀ a : Nat, a < s.heap.size → ¬ s.heap.size ≤ a := fun a h => Nat.not_le.mpr h
  obtain ⟨f, hf⟩ := st_strings hs
  obtain ⟨D, hD⟩ := st_D hts
  obtain ⟨cA, hcA⟩ := st_KA hts
  obtain ⟨z, hz, hzr⟩ : ∃ z, va_Z "jdk/internal/util/Preconditions" "SIOOBE_FORMATTER" "Ljava/util/function/BiFunction;" z (fun q => s.heap.size ≤ q) s s.heap ∧ (z = .null ∨ ∃ a, z = .ref a) := by
    rcases va_Zqof (A := fun q => s.heap.size ≤ q) (args := #[Value.ref b]) (hts _ (lw_at lw_m1 112 rfl)) (hts _ (lw_at lw_m1 7 rfl)) (hs _ (fl 5 rfl)) hA with q | ⟨t, q⟩
    · exact ⟨_, q, Or.inl rfl⟩
    · exact ⟨_, q, Or.inr ⟨t, rfl⟩⟩
  have hcs : va_Z "java/lang/String" "COMPACT_STRINGS" "Z" (.int 1) (fun q => s.heap.size ≤ q) s s.heap := va_Zof (args := #[Value.ref b]) (hts _ (lw_at lw_m1 96 rfl)) (hts _ (lw_at lw_m1 5 rfl)) (va_eqt (hs _ (fl 4 rfl))) hA
  have hxv : pv_xvOK (mkE s.heap.size (fun j => (f j).1) (st_xvf b (fun j => (f j).2) z) D cA s.heap) := by
    intro j
    show st_xvf b (fun j => (f j).2) z j = .null ∨ ∃ a, st_xvf b (fun j => (f j).2) z j = .ref a
    unfold st_xvf
    split
    · exact Or.inr ⟨_, rfl⟩
    · split
      · exact hzr
      · split
        · exact Or.inr ⟨_, rfl⟩
        · exact Or.inl rfl
  have hST : pv_ST s.heap.size (fun j => (f j).1) (st_xvf b (fun j => (f j).2) z) s.heap #[Value.ref b] s := by
    refine ⟨hts, fun k q hq => ⟨st_srw hts k q hq, ?_⟩, hcs, hz⟩
    refine str_all (sa := fun j => (f j).1) hs (fun k c i j hk => ?_) k q hq
    have hk23 : k < 23 := by
      have := (List.getElem?_eq_some_iff.mp hk).1
      exact this
    obtain ⟨⟨c', i', e1, e2⟩, -⟩ := hf k hk23
    rw [hk] at e1
    cases e1
    exact e2
  have hXC := st_XC (D := D) hs hD
  have hKX : pv_KX (mkE s.heap.size (fun j => (f j).1) (st_xvf b (fun j => (f j).2) z) D cA s.heap) (PP L xs) s := by
    intro j hj
    show ∃ (a : Nat) (cell : Cell), st_xvf b (fun j => (f j).2) z j = .ref a ∧ a < s.heap.size ∧ s.heap[a]? = some cell ∧ s.isArrayOf cell (pv_ty (xaP L xs j).1) ∧ cell.vm ≠ .unknown ∧ ((xaP L xs j).2.1 ≤ cell.slots.size ∧ cell.slots.size.toInt32 = Int32.ofNat (xaP L xs j).2.1) ∧ ∀ i, i < (xaP L xs j).2.1 → cell.slots[i]? = some (.int ((xaP L xs j).2.2 i))
    have hj : (xaP L xs j).1 < 10 := hj
    by_cases h0 : j = 0
    · subst h0
      obtain ⟨scr, q1, q2, q3, q4, q5⟩ := hX
      exact ⟨b, scr, rfl, hbl, q1, q2, q3, ⟨by rw [q4]; exact Nat.le_refl _, by rw [q4]; rfl⟩, q5⟩
    · have e0 : xaP L xs j = xaL.getD (j - 1) (11, 0, fun _ => 0) := if_neg h0
      rw [e0] at hj ⊢
      have h23 : j - 1 < 23 := by
        apply Classical.byContradiction
        intro hn
        have : xaL.getD (j - 1) (11, 0, fun _ => 0) = (11, 0, fun _ => 0) := by
          rw [List.getD_eq_getElem?_getD, List.getElem?_eq_none (by show 23 ≤ j - 1; omega)]
          rfl
        rw [this] at hj
        exact absurd hj (by decide)
      obtain ⟨-, -, -, -, cell, q1, q2, q3, q4, q5, q6, q7⟩ := hf (j - 1) h23
      have htag : (xaL.getD (j - 1) (11, 0, fun _ => 0)).1 = 1 := st_tag (j - 1) h23
      refine ⟨(f (j - 1)).2, cell, ?_, Nat.not_le.mp q7, q1, ?_, q3, ⟨q4, q5⟩, q6⟩
      · unfold st_xvf
        rw [if_neg h0, if_neg (by omega), if_pos (by omega)]
      · rw [htag]; exact q2
  have hKS : pv_KS (mkE s.heap.size (fun j => (f j).1) (st_xvf b (fun j => (f j).2) z) D cA s.heap) (PP L xs) s := by
    intro j hj
    have hj : (xaP L xs (j + 1)).1 = 1 := hj
    have e0 : xaP L xs (j + 1) = xaL.getD j (11, 0, fun _ => 0) := if_neg (by omega)
    rw [e0] at hj
    have h23 : j < 23 := by
      apply Classical.byContradiction
      intro hn
      have : xaL.getD j (11, 0, fun _ => 0) = (11, 0, fun _ => 0) := by
        rw [List.getD_eq_getElem?_getD, List.getElem?_eq_none (by show 23 ≤ j; omega)]
        rfl
      rw [this] at hj
      exact absurd hj (by decide)
    obtain ⟨-, q1, q2, q3, -⟩ := hf j h23
    have e1 : st_xvf b (fun j => (f j).2) z (j + 1) = .ref (f j).2 := by
      unfold st_xvf
      rw [if_neg (by omega), if_neg (by omega), if_pos (by omega)]
      rfl
    refine ⟨q1, q2, ?_⟩
    show va_OF "java/lang/String" "value" "[B" (st_xvf b (fun j => (f j).2) z (j + 1)) (f j).1 _ s s.heap
    rw [e1]
    exact q3
  have hK : pv_K (mkE s.heap.size (fun j => (f j).1) (st_xvf b (fun j => (f j).2) z) D cA s.heap) (PP L xs) #[Value.ref b] s := by
    obtain ⟨a, cS, cell, kS, -, q2, -, q4, -⟩ := Cond.exactly_spec (hs _ (fl 86 rfl))
    exact ⟨hxv, st_KC hts hD, hcA, hKX, hKS, cS, kS, q2, q4⟩
  have hF : pv_FR (mkE s.heap.size (fun j => (f j).1) (st_xvf b (fun j => (f j).2) z) D cA s.heap) (PP L xs) GG (pv_XF (mkE s.heap.size (fun j => (f j).1) (st_xvf b (fun j => (f j).2) z) D cA s.heap)) 441 p s m #[Value.ref b] meth c := by
    refine ⟨hx, hb.trans rfl, hml.trans rfl, hr.trans rfl, hlocks, ?_, hown, (fun h => by cases h), hK, fun M' hM' => mok_any hST hXC (pv_cw hcw) M' hM', st_XF rfl rfl rfl hs hts hD, Nat.le_refl _, fun q _ => rfl⟩
    have : c.exceptionTable.toList = [] := by
      have := Array.isEmpty_iff.mp hex
      rw [this]
    rw [this]
    rfl
  obtain ⟨n, h', hrun⟩ := hP L xs hL
  have hgo := pv_sim (E := mkE s.heap.size (fun j => (f j).1) (st_xvf b (fun j => (f j).2) z) D cA s.heap) pv_XS_holds pv_PV_holds n 1500 441 0 (lv_args 0 [.retAddr 0]) [] _ _ h' hrun p l e room_1 s m #[Value.ref b] below meth c hfl hF ⟨by decide, by decide⟩
  have hRel : pv_Rel (mkE s.heap.size (fun j => (f j).1) (st_xvf b (fun j => (f j).2) z) D cA s.heap) room_1 (fun _ => (0, 0, fun _ => .null), 0, 147880, 8648370) s.heap [] 0 0 :=
    ⟨rfl, (fun k hk => absurd hk (Nat.not_lt_zero k)), (fun q _ => rfl), (fun q hq => by cases hq), by decide, by decide⟩
  have hle := lv_entry ([Value.ref b]) (n := 7) (show (1 : Nat) ≤ 7 by decide)
  have hw := hgo s.heap [] 0 0 _ hRel (show lv_has _ 7 ((lv_args 0 [.retAddr 0]).map (pv_imq (mkE s.heap.size (fun j => (f j).1) (st_xvf b (fun j => (f j).2) z) D cA s.heap))) from hle)
  have hent : entryFrame m ([Value.ref b] : List Value).toArray 7 = F0 m 0 ((lg_sl ([Value.ref b]) ++ List.replicate (7 - (lg_sl ([Value.ref b])).length) Slot.unset).toArray) [] := lg_entry_eq m _ _
  rw [hent]
  intro T hT X
  obtain ⟨t, h1, h2, h3, h4, h5, Lc, k, n', h6, h7⟩ := hw T hT X
  refine ⟨t, h1, .returned (some (.int 1)), h2, h3, rfl, ⟨_, rfl⟩, h4, ?_⟩
  have hk : k ≤ 147880 := Nat.le_trans (Nat.le_add_right _ _) h7.2.2.2.2.1
  have hn : n' ≤ 8648370 := Nat.le_trans (Nat.le_add_right _ _) h7.2.2.2.2.2
  have h6' : s.sameButNew ({ t with vm := s.vm } : State) ([] ++ Lc) 147880 8648370 := State.sameButNew.mono h6 hk hn
  exact State.sameButNew.drop_fresh h6' h7.2.2.2.1
set_option maxHeartbeats 4000000 in
theorem lw_walk (hP : PURE) (l : Launch) (hfl : l.flags = flags0) (b : Addr) (xs : List Int32) : MetFree l x (headSpec (Jvm.Cond.code x code maxLocals ret :: tables_1) room_1) (lw_P b xs) (fun _ _ _ _ _ => True) lw_Q := by
  refine MetFree.of_bodyS (code := code) (maxLocals := maxLocals) (ret := ret) (by decide) ?_ ?_
  · intro args s m h hn
    obtain ⟨meth, c, h1, h2, h3, h4, h5, h6, -, -⟩ := Cond.code_spec hn (atoms_spec (ws := Jvm.Cond.code x code maxLocals ret :: tables_1) h _ List.mem_cons_self)
    exact ⟨meth, c, h1, h2, h3, h4, h5, h6⟩
  · intro p e s m args below meth c s₁ B hml0 hPp _
    obtain ⟨rfl, hx, hbd, hgv⟩ := hPp
    obtain ⟨scr, harrAt, hlist, hof, hsmall⟩ := hx
    obtain ⟨hcb, hkn, -, -⟩ := State.arrayAt?_spec harrAt
    have hown : s.vm.findClass R_law = some m.cls := findClass_of_methodNamed B.named
    have hts0 : ∀ c ∈ (Jvm.Cond.code x code maxLocals ret :: tables_1), c.before #[Value.ref b] s = true := atoms_spec (ws := Jvm.Cond.code x code maxLocals ret :: tables_1) B.pre
    have hts : ∀ w ∈ lw_tbl, w.before #[Value.ref b] s = true := k2_hts_sels lw_privs (fun w hw => hts0 w (List.mem_cons_of_mem _ hw)) lw_privs_ok
    have hml : c.maxLocals = 7 := B.maxLocals_eq (hts0 _ List.mem_cons_self)
    have hex := B.noHandlers (hts0 _ List.mem_cons_self)
    have X₀ : Stand p l e room_1 s m #[Value.ref b] below meth c s₁ [] 0 0 := Stand.of_body B
    have hh0 : s₁.heap = s.heap := by rw [B.state]; rfl
    have hsz : scr.slots.size = xs.length := by rw [← Array.length_toList, hlist, List.length_map]
    have hval : ∀ j : Nat, j < xs.length → scr.slots[j]? = some (.int (xs.getD j 0)) := fun j hj => by
      rw [← Array.getElem?_toList, hlist]
      simp [hj]
    have hbl : b < s.heap.size := (Array.getElem?_eq_some_iff.mp hcb).1
    have hX : va_X b xs.length (fun j => xs.getD j 0) s s.heap := ⟨scr, hcb, hof, hkn, hsz, hval⟩
    have K : W p l e room_1 s m #[Value.ref b] below meth c s₁.heap [] 0 0 (lw_Z below #[Value.ref b] s) (entryFrame m ([Value.ref b] : List Value).toArray 7) := by
      rw [hh0]
      exact whole_start hP l hfl hbd ⟨B.exec, B.bytes, B.returns, hml, hown, hts, hX, hbl, B.notSynchronized, hgv, hts0 _ List.mem_cons_self, hex⟩
    obtain ⟨t, a1, o, b1, b2, b3⟩ := K s₁ rfl X₀
    exact ⟨t, o, a1, b1, b2, b3⟩
theorem lw_pre_spec {args : Array Value} {s : State} (h : (Jvm.Cond.and given_1 narrow_1).before args s = true) (hr : rest_1_c.before args s = true) : ∃ (b : Addr) (xs : List Int32), lw_P b xs args s := by
  have hs := flat_of_before _ h
  have hq := flat_of_before _ hr
  have hc : (Cond.count 1).before args s = true := hs _ (by decide +kernel)
  have harr : (Cond.arrayOf (.arg 0) .int).before args s = true := hs _ (by decide +kernel)
  have hle : (Cond.le (.length (.arg 0)) (.int 256)).before args s = true := hs _ (by decide +kernel)
  have hlen : (Cond.isInt (.length (.arg 0))).before args s = true := hq _ (by decide +kernel)
  have hall : (Cond.all (.arg 0) (.isInt (.elem (.arg 0) (.index 0)))).before args s = true := hq _ (by decide +kernel)
  obtain ⟨b, xs, hb, hx⟩ := State.ints_of_pre rfl harr hlen hall
  have hsm : xs.length < 2 ^ 31 := hx.choose_spec.2.2.2
  have hev : (Term.length (.arg 0)).eval args s none [] s = some (.int xs.length.toInt32) := hx.length_eval hb
  have hv := Cond.le_ints hev (show (Term.int 256).eval args s none [] s = some (.int 256) from rfl)
  have hd : xs.length.toInt32 ≤ 256 := by
    simpa [Cond.before, Cond.holds, hv] using hle
  have hN : xs.length ≤ 256 := (Int32.ofNat_le_ofNat hsm (by decide)).mp (show Int32.ofNat xs.length ≤ Int32.ofNat 256 from hd)
  exact ⟨b, xs, Cond.one_arg hc (show args[0]? = some (.ref b) from hb), hx, hN, h⟩
theorem lw_comes (hP : PURE) (l : Launch) (hfl : l.flags = flags0) : Comes l x (Jvm.Cond.code x code maxLocals ret :: tables_1) room_1 (fun tb e args s => Calls_1 tb e args s ∧ rest_1 tb e args s ∧ Pre_1 tb e args s)
    (fun _ _ args s o t => lw_Q args s o t) := by
  intro p e ha hc hk s m args below hf hfit hheap happ hpre
  obtain ⟨b, xs, hPp⟩ := lw_pre_spec hpre.2.2 hpre.2.1
  obtain ⟨k, o, h1, h2, h3, hQ⟩ := lw_walk hP l hfl b xs p e ha hc hk s m args below hf ((Spec.applies_iff_loose hf).mp happ).1 hPp trivial
  exact ⟨k, o, h1, h2, h3, hQ⟩
theorem lw_frame {s t : State} {o : Outcome} {args : Array Value} (h : Framed s o t [] 147880 8648370) :
    Framed s o t (fieldLocs frame_1_writes args s ++ arrayLocs frame_1_arrays args s ++ staticLocs frame_1_statics s) 147880 8648370 := h
theorem lw_limb (hP : PURE) (L : Cond) (hL : ∀ (args : Array Value) (s t : State), L.after args s (.returned (some (.int 1))) t = true) :
    ArmFor flags0 classFile x code maxLocals ret World_1 tables_1 room_1 Calls_1 rest_1 Pre_1
      (fun tb e a s o t => postC L tb e a s o t ∧ Framed s o t (fieldLocs frame_1_writes a s ++ arrayLocs frame_1_arrays a s ++ staticLocs frame_1_statics s) 147880 8648370) := by
  intro l hfl _ _ p e ha hc hk s m args below hf hfit hheap happ hpre
  obtain ⟨k, o, h1, h2, h3, rfl, hF⟩ := lw_comes hP l hfl p e ha hc hk s m args below hf hfit hheap happ hpre
  exact ⟨k, _, h1, h2, h3, hL args s _, lw_frame hF⟩
theorem i_vc_of (hP : PURE) : Claimed_1_1 ∧ Claimed_1_2 := ⟨lw_limb hP limb_1_1 (fun args s t => by simp [limb_1_1, Cond.after, Cond.holds, Cond.value]), lw_limb hP limb_1_2 (fun args s t => Cond.after_iff.mpr (by
  first | (rw [show limb_1_2 = Cond.eq .result (.int 1) from rfl, Cond.eq_ints (x := 1) (y := 1) rfl rfl]; simp; done) | (simp [limb_1_2, Cond.value, Term.eval]; done)))⟩
