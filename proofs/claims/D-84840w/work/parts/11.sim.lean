/-! THE SIMULATION -/
def pv_oi (E : pvE) : pvO → Outcome
  | .inl v => .returned (v.map (pv_im E))
  | .inr k => .threw (pv_B E + k)
def pv_oOK (o : pvO) (h : pvH) : Prop := match o with
  | .inl _ => True
  | .inr k => k < h.2.1 ∧ 1000 ≤ (h.1 k).1
def pv_End (E : pvE) (R : Room) (s : State) (below : List Frame) (o : pvO) (h : pvH) (t : State) : Prop :=
  t.status = .running ∧ Ended t below (pv_oi E o) ∧ s.WarmedH t.vm ∧ pv_oOK o h ∧ ∃ (L : List Loc) (k n : Nat), s.sameButNew ({ t with vm := s.vm } : State) L k n ∧ pv_Rel E R h t.heap L k n
theorem pv_args_map {E : pvE} (hx : pv_xvOK E) (av : List Value) : ∀ i, lv_args i (av.map (pv_im E)) = (lv_args i av).map (pv_imq E) := by
  induction av with
  | nil => intro i; rfl
  | cons a r ih =>
    intro i
    simp only [List.map_cons, lv_args, ih, pv_im_cat hx]
    rfl
theorem pv_sl_len (vs : List Value) : (lg_sl vs).length = (vs.map Value.category).sum := by
  unfold lg_sl
  induction vs with
  | nil => rfl
  | cons a r ih =>
    rw [List.flatMap_cons, List.length_append, ih, List.map_cons, List.sum_cons]
    congr 1
    rcases lv_cat a with h | h <;> rw [h] <;> rfl
theorem pv_catR {E : pvE} (hx : pv_xvOK E) (vs : List Value) : ((vs.map (pv_im E)).map Value.category).sum = (vs.map Value.category).sum := by
  induction vs with
  | nil => rfl
  | cons a r ih => simp only [List.map_cons, List.sum_cons, ih, pv_im_cat hx]
theorem pv_weaken {tb : Tables} {e : Env} {g : Frame} {below : List Frame} {a b : State} (h : Steps tb e (g :: below) a b) : Steps tb e below a b := by
  obtain ⟨n, h1, h2⟩ := h
  exact ⟨n, h1, fun k hk => Within.weaken (mid := [g]) (h2 k hk)⟩
section PV11
variable {E : pvE} {P : pvP} {G : pvG} {p : Program} {l : Launch} {e : Env} {R : Room} {s : State} {m : MethodId} {args : Array Value} {below : List Frame} {meth : Method} {c : Code}
theorem pv_ret_end {h : pvH} {H : Heap} {locs : List Loc} {cells slots : Nat} {v : Option Value} {g : JFrame} (hR : pv_Rel E R h H locs cells slots)
    (hw : W p l e R s m args below meth c H locs cells slots (MQ below (fun _ _ o t => o = .returned (v.map (pv_im E)) ∧ t.heap = H) args s cells slots (fun q => pv_B E ≤ q)) g) : W p l e R s m args below meth c H locs cells slots (pv_End E R s below (.inl v) h) g := by
  intro T hT X
  obtain ⟨t, h1, o, h2, h3, ⟨rfl, h4⟩, L, ⟨-, h5, h6⟩, h7⟩ := hw T hT X
  refine ⟨t, h1, h2, h3, h5, trivial, L, cells, slots, h6, ?_⟩
  rw [h4]
  exact ⟨hR.1, hR.2.1, hR.2.2.1, h7, hR.2.2.2.2⟩
/-- the returns and throws of a method -/
theorem pv_fin_sim (hx : p.tables.exec = Jvm.exec) {M : Nat} (hb : c.code = (G M).2.1) (hxv : pv_xvOK E) (hret : meth.sig.returnType = (pv_mi P M).2.1) (hlocks : meth.locks = false) {nL pc : Nat} {lv : pvL} {st : List Value} {h : pvH}
    {i : Instr} {len r1 r2 r3 : Nat} (hi : pv_ins P M pc = some (i, len, r1, r2, r3)) (hd : decode (G M).2.1 pc = .ok (i, len)) (hlen : pv_len i = none ∨ pv_len i = some len) (hX4 : ∀ idx, i = .new idx → r3 = 4 → (1 ≤ h.2.2.1 ∧ pv_nf P r1 ≤ h.2.2.2) ∧ (st.map Value.category).sum ≤ 24 ∧ (pv_mi P M).2.2.2 = [] → pv_Go E p l e R s m args below meth c (pv_End E R s below (.inr h.2.1) (pv_new h (1000 + r1, pv_nf P r1, fun _ => .null))) nL pc lv st h) (hrt : i = .areturn → (∃ n, (pv_mi P M).2.1 = some (.object n)) ∨ ∃ t, (pv_mi P M).2.1 = some (.array t))
    {o : pvO} {h' : pvH} (hs : pv_step P M pc lv st h = some (.inr (.inr (o, h')))) : pv_Go E p l e R s m args below meth c (pv_End E R s below o h') nL pc lv st h := by
  have L : ∀ {n : Nat}, pv_len i = some n → len = n := fun {n} e0 => by
    rcases hlen with h9 | h9
    · rw [e0] at h9; cases h9
    · rw [e0] at h9; cases h9; rfl
  unfold pv_step at hs
  rw [hi] at hs
  have nx : ∀ {o1 : Option (List Value)} {pc1 : Nat}, ¬ pv_nx pc1 lv h o1 = some (.inr (.inr (o, h'))) := by
    intro o1 pc1 e0
    unfold pv_nx at e0
    cases o1 <;> cases e0
  have sx : ∀ {o1 : Option (List Value × pvH)} {pc1 : Nat}, ¬ pv_stx pc1 lv o1 = some (.inr (.inr (o, h'))) := by
    intro o1 pc1 e0
    unfold pv_stx at e0
    cases o1 <;> cases e0
  have gx : ∀ {st1 : List Value} {pc1 : Int}, ¬ pv_goI pc1 lv st1 h = some (.inr (.inr (o, h'))) := by
    intro st1 pc1 e0
    unfold pv_goI at e0
    split at e0 <;> cases e0
  have ax : ∀ {c1 : pvC} {st1 : List Value} {pc1 : Nat}, ¬ pv_alloc h c1 pc1 lv st1 = some (.inr (.inr (o, h'))) := by
    intro c1 st1 pc1 e0
    unfold pv_alloc at e0
    split at e0 <;> cases e0
  have cx : ∀ {M1 n1 pc1 : Nat} {st1 : List Value}, ¬ pv_call P M1 n1 pc1 st1 h = some (.inr (.inr (o, h'))) := by
    intro M1 n1 pc1 st1 e0
    unfold pv_call at e0
    split at e0 <;> cases e0
  cases i with
  | ireturn =>
    obtain rfl := L rfl
    simp only [pv_ret] at hs
    split at hs
    · rename_i x ty hq
      split at hs
      · rename_i hn
        cases hs
        exact fun H locs cells slots ls hR hl => pv_ret_end hR (W.zret hx hb (hret.trans hq) hn.1 (fun t ht _ => ⟨rfl, ht⟩) hR.2.2.2.1 hd)
      · cases hs
    · cases hs
  | lreturn =>
    obtain rfl := L rfl
    simp only at hs
    split at hs
    · rename_i x hq
      cases hs
      exact fun H locs cells slots ls hR hl => pv_ret_end hR (W.lret hx hb (hret.trans hq) (fun t ht _ => ⟨rfl, ht⟩) hR.2.2.2.1 hd)
    · cases hs
  | areturn =>
    obtain rfl := L rfl
    simp only at hs
    split at hs
    · rename_i v ty hq
      split at hs
      · rename_i hn
        cases hs
        intro H locs cells slots ls hR hl
        refine pv_ret_end hR (W.aret (rt := ty) hx hb (hret.trans hq) ?_ (pv_im_R hxv hn) (fun t ht _ => ⟨rfl, ht⟩) hR.2.2.2.1 hd)
        rcases hrt rfl with ⟨n, e1⟩ | ⟨n, e1⟩
        · exact Or.inl ⟨n, by rw [hq] at e1; exact Option.some.inj e1⟩
        · exact Or.inr ⟨n, by rw [hq] at e1; exact Option.some.inj e1⟩
      · cases hs
    · cases hs
  | return_ =>
    obtain rfl := L rfl
    simp only at hs
    split at hs
    · rename_i hq
      cases hs
      exact fun H locs cells slots ls hR hl => pv_ret_end hR (W.vret hx hb (hret.trans hq) (fun t ht _ => ⟨rfl, ht⟩) hR.2.2.2.1 hd)
    · cases hs
  | new idx =>
    simp only at hs
    split at hs
    · rename_i h4
      split at hs
      · rename_i hq
        cases hs
        exact hX4 idx rfl h4 hq
      · cases hs
    · exact absurd hs ax
  | invokespecial idx =>
    simp only at hs
    split at hs
    · split at hs
      · split at hs <;> cases hs
      · cases hs
    · split at hs
      · exact absurd hs cx
      · cases hs
  | invokestatic idx =>
    simp only at hs
    split at hs
    · exact absurd hs cx
    · exact absurd hs sx
  | invokevirtual idx =>
    simp only at hs
    split at hs
    · exact absurd hs cx
    · cases hs
  | _ => first
    | exact absurd hs nx
    | exact absurd hs sx
    | exact absurd hs ax
    | (simp only at hs; first | exact absurd hs gx | (split at hs <;> first | exact absurd hs sx | cases hs | (split at hs <;> first | exact absurd hs gx | exact absurd hs ax | cases hs | (split at hs <;> first | exact absurd hs gx | exact absurd hs ax | cases hs))))
    | cases hs
end PV11
