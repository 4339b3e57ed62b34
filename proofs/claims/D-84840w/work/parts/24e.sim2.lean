/-! exceptions and growth keep the relation -/
theorem rel_xn {σ : tvS} {h : pvH} (hR : tvRel σ h) (t : Nat) (g : Nat → Value) : tvRel (xn σ) (pv_new h (t, 6, g)) := by
  obtain ⟨h1, h2, h3⟩ := hR
  refine ⟨?_, fun k hk => ?_, h3⟩
  · show (h.2.1 + 1, h.2.2.1 - 1, h.2.2.2 - 6) = ((rm σ).1 + 1, (rm σ).2.1 - 1, (rm σ).2.2 - 6)
    rw [h1]
  · obtain ⟨q1, q2, f, q3, q4⟩ := h2 k hk
    refine ⟨Nat.lt_succ_of_lt q1, q2, f, ?_, q4⟩
    show va_up h.1 h.2.1 _ (rh σ k) = _
    rw [va_up_ne _ _ (by rw [h1]; exact Nat.ne_of_lt q1)]
    exact q3
theorem grw_lt {k : Nat} (h : grw k = true) : k < 239 := by
  apply Classical.byContradiction
  intro hn
  have hf : grw k = false := by
    unfold grw
    have hb : ∀ m, m ≤ 239 → Nat.blt k m = false := fun m hm => by
      cases e : Nat.blt k m with
      | false => rfl
      | true => exact absurd (Nat.blt_eq.mp e) (by omega)
    simp [hb]
  rw [hf] at h
  cases h
theorem grw_tag : ∀ k, k < 239 → grw k = true → tagN k = 0 := by decide +kernel
theorem tag_gap : ∀ k, k < 239 → (tagN k < 5 ∨ 10 ≤ tagN k) := by decide +kernel
def ownC (o f : Nat) : Bool := (List.range 239).all fun j => cond (Nat.ble 10 (tagN j)) ((List.range (lenN j)).all fun i => cond (Nat.beq (refN j i) (refN o f)) (Nat.beq j o && Nat.beq i f) true) true
def ownD : Bool := (List.range 239).all fun o => cond (Nat.ble 10 (tagN o)) ((List.range (lenN o)).all fun f => cond (grw (refN o f)) (ownC o f) true) true
theorem ownD_ok : ownD = true := by decide +kernel
theorem grw_own (o : Nat) (h1 : o < 239) (h2 : 10 ≤ tagN o) (f : Nat) (h3 : f < lenN o) (h4 : grw (refN o f) = true) (j : Nat) (h5 : j < 239) (h6 : 10 ≤ tagN j) (i : Nat) (h7 : i < lenN j) (h8 : refN j i = refN o f) : j = o ∧ i = f := by
  have a := List.all_eq_true.mp ownD_ok o (List.mem_range.mpr h1)
  simp only [Nat.ble_eq_true_of_le h2, cond_true] at a
  have b := List.all_eq_true.mp a f (List.mem_range.mpr h3)
  simp only [h4, cond_true] at b
  have c := List.all_eq_true.mp b j (List.mem_range.mpr h5)
  simp only [Nat.ble_eq_true_of_le h6, cond_true] at c
  have e := List.all_eq_true.mp c i (List.mem_range.mpr h7)
  simp only [h8, Nat.beq_refl, cond_true, Bool.and_eq_true] at e
  exact ⟨Nat.eq_of_beq_eq_true e.1, Nat.eq_of_beq_eq_true e.2⟩
theorem rh_gw (σ : tvS) (k n j : Nat) : rh (gw σ k n) j = if j = k then (rm σ).1 else rh σ j := rfl
theorem rd_gw (σ : tvS) (k n j i : Nat) : rd (gw σ k n) j i = if j = k then (if i < min (ln σ k) n then rd σ k i else 0) else rd σ j i := by
  show va_up σ.1 k _ j i = _
  by_cases e : j = k
  · subst e
    rw [va_up_self, if_pos rfl]
    unfold va_cpy
    by_cases e2 : i < min (ln σ j) n
    · rw [if_pos ⟨Nat.zero_le _, by omega⟩, if_pos e2]
      show σ.1 j (0 + (i - 0)) = σ.1 j i
      rw [Nat.zero_add, Nat.sub_zero]
    · rw [if_neg (by omega), if_neg e2]
  · rw [va_up_ne _ _ e, if_neg e]
    rfl
theorem le_gw (σ : tvS) (k n j : Nat) (hg : grw k = true) : le (gw σ k n) j = if j = k then n else le σ j := by
  show cond (grw j) (va_up σ.2.2.1 k n j) (lenN j) = _
  by_cases e : j = k
  · subst e
    rw [hg, va_up_self, if_pos rfl]
    rfl
  · rw [va_up_ne _ _ e, if_neg e]
    rfl
theorem tvC_gw {σ : tvS} {k n j i : Nat} (hj : j ≠ k) (hr : 10 ≤ tagN j → tv_kd (ftP (tagN j - 10) i) < 2 ∨ refN j i ≠ k) (ht : tagN j < 4 ∨ 10 ≤ tagN j) : tvC (gw σ k n) j i = tvC σ j i := by
  have e1 : rd (gw σ k n) j i = rd σ j i := by rw [rd_gw, if_neg hj]
  have e2 : rl (gw σ k n) j i = rl σ j i := rfl
  unfold tvC
  rw [e1, e2]
  by_cases a : tagN j = 2
  · rw [if_pos a, if_pos a]
  · rw [if_neg a, if_neg a]
    by_cases b : tagN j < 4
    · rw [if_pos b, if_pos b]
    · rw [if_neg b, if_neg b]
      by_cases c : tv_kd (ftP (tagN j - 10) i) < 2
      · rw [if_pos c, if_pos c]
      · rw [if_neg c, if_neg c, rh_gw, if_neg ((hr (ht.resolve_left b)).resolve_left c)]
theorem rel_gw {σ : tvS} {h : pvH} (hR : tvRel σ h) {k o f n : Nat} {F G : Nat → Value} (hg : grw k = true) (hk : k < 239) (ho : 10 ≤ tagN o) (ho2 : o < 239) (hf : f < lenN o) (hr : refN o f = k) (hkd : tv_kd (ftP (tagN o - 10) f) = 2) (hn : ln σ k < n)
    (hF : h.1 (rh σ k) = (0, ln σ k, F)) (hG : h.1 (rh σ o) = (tagN o, lenN o, G)) :
    tvRel (gw σ k n) (pv_put (pv_put (pv_new h (0, n, fun _ => .int 0)) h.2.1 (0, n, va_cpy F (fun _ => .int 0) 0 0 (ln σ k))) (rh σ o) (tagN o, lenN o, va_up G f (.ref h.2.1))) := by
  have hR' := hR
  obtain ⟨h1, h2, h3⟩ := hR
  have hm : h.2.1 = (rm σ).1 := by rw [h1]
  have hgt : tagN k = 0 := grw_tag k hk hg
  have hok : o ≠ k := fun e => by rw [e] at ho; omega
  refine ⟨?_, fun j hj => ?_, fun j j' hj hj' e => ?_⟩
  · show (h.2.1 + 1, h.2.2.1 - 1, h.2.2.2 - n) = ((rm σ).1 + 1, (rm σ).2.1 - 1, (rm σ).2.2 - n)
    rw [h1]
  · obtain ⟨q1, q2, g, q3, q4⟩ := h2 j hj
    rw [rh_gw, le_gw _ _ _ _ hg]
    by_cases e : j = k
    · subst e
      rw [if_pos rfl, if_pos rfl]
      refine ⟨Nat.lt_succ_self _, fun c => (by rw [hg] at c; cases c), va_cpy F (fun _ => .int 0) 0 0 (ln σ j), ?_, fun _ i hi => ?_⟩
      · show va_up (va_up (va_up h.1 h.2.1 _) h.2.1 _) (rh σ o) _ (rm σ).1 = _
        have hne : (rm σ).1 ≠ rh σ o := fun c => Nat.lt_irrefl (rm σ).1 (by have := (h2 o ho2).1; omega)
        rw [va_up_ne _ _ hne, hm, va_up_self, hgt]
      · have hle : le σ j = ln σ j := by unfold le; rw [hg]; rfl
        have eg : g = F := by
          rw [hF] at q3
          exact (Prod.mk.inj (Prod.mk.inj q3).2).2.symm
        subst eg
        unfold tvC
        rw [if_neg (by omega), if_pos (by omega), rd_gw, if_pos rfl]
        unfold va_cpy
        by_cases e2 : i < ln σ j
        · rw [if_pos ⟨Nat.zero_le _, by omega⟩, if_pos (by omega), Nat.zero_add, Nat.sub_zero, q4 (by omega) i (by omega)]
          unfold tvC
          rw [if_neg (by omega), if_pos (by omega)]
        · rw [if_neg (by omega), if_neg (by omega)]
    · rw [if_neg e, if_neg e]
      have hne : rh σ j ≠ (rm σ).1 := Nat.ne_of_lt q1
      refine ⟨Nat.lt_succ_of_lt q1, q2, ?_⟩
      show ∃ f', va_up (va_up (va_up h.1 h.2.1 _) h.2.1 _) (rh σ o) (tagN o, lenN o, va_up G f (.ref h.2.1)) (rh σ j) = (tagN j, le σ j, f') ∧ _
      by_cases eo : j = o
      · subst eo
        rw [va_up_self]
        have eg : g = G := by
          rw [hG] at q3
          exact (Prod.mk.inj (Prod.mk.inj q3).2).2.symm
        subst eg
        refine ⟨_, by rw [le_obj hj ho], fun _ i hi => ?_⟩
        rw [le_obj hj ho] at hi
        by_cases ei : i = f
        · subst ei
          rw [va_up_self]
          unfold tvC
          rw [if_neg (by omega), if_neg (by omega), if_neg (by omega), hr, rh_gw, if_pos rfl, hm]
        · rw [va_up_ne _ _ ei, q4 (by omega) i (by rw [le_obj hj ho]; exact hi)]
          refine (tvC_gw e (fun _ => ?_) (Or.inr ho)).symm
          exact Or.inr fun c => ei (grw_own j hj ho f hf (by rw [hr]; exact hg) j hj ho i hi (by rw [c, hr])).2
      · rw [va_up_ne _ _ (fun c => eo (h3 j o hj ho2 c)), hm, va_up_ne _ _ hne, va_up_ne _ _ hne]
        refine ⟨g, q3, fun h4 i hi => ?_⟩
        rw [q4 h4 i hi]
        have hgap := tag_gap j hj
        refine (tvC_gw e (fun ht => ?_) (by omega)).symm
        rw [le_obj hj ht] at hi
        exact Or.inr fun c => eo (grw_own o ho2 ho f hf (by rw [hr]; exact hg) j hj ht i hi (by rw [c, hr])).1
  · rw [rh_gw, rh_gw] at e
    by_cases a : j = k
    · by_cases b : j' = k
      · rw [a, b]
      · rw [if_pos a, if_neg b] at e
        exact absurd e.symm (Nat.ne_of_lt (h2 j' hj').1)
    · by_cases b : j' = k
      · rw [if_neg a, if_pos b] at e
        exact absurd e (Nat.ne_of_lt (h2 j hj).1)
      · rw [if_neg a, if_neg b] at e
        exact h3 j j' hj hj' e
theorem mI_some {st : List Value} {K : Int32 → List Value → tvR} {q : tvO × tvS} (h : mI st K = some q) : ∃ x r, st = .int x :: r ∧ K x r = some q := by
  unfold mI at h; split at h
  · exact ⟨_, _, rfl, h⟩
  · cases h
theorem mII_some {st : List Value} {K : Int32 → Int32 → List Value → tvR} {q : tvO × tvS} (h : mII st K = some q) : ∃ x y r, st = .int y :: .int x :: r ∧ K x y r = some q := by
  unfold mII at h; split at h
  · exact ⟨_, _, _, rfl, h⟩
  · cases h
theorem mR_some {st : List Value} {K K0 : List Value → tvR} {q : tvO × tvS} (h : mR st K K0 = some q) : ∃ r, (∃ k, st = .ref k :: r ∧ K r = some q) ∨ (st = .null :: r ∧ K0 r = some q) := by
  unfold mR at h; split at h
  · exact ⟨_, Or.inl ⟨_, rfl, h⟩⟩
  · exact ⟨_, Or.inr ⟨rfl, h⟩⟩
  · cases h
theorem mF_some {st : List Value} {K : UInt32 → List Value → tvR} {q : tvO × tvS} (h : mF st K = some q) : ∃ x r, st = .float x :: r ∧ K x r = some q := by
  unfold mF at h; split at h
  · exact ⟨_, _, rfl, h⟩
  · cases h
theorem mIF_some {st : List Value} {K : Int32 → UInt32 → List Value → tvR} {q : tvO × tvS} (h : mIF st K = some q) : ∃ i x r, st = .int i :: .float x :: r ∧ K i x r = some q := by
  unfold mIF at h; split at h
  · exact ⟨_, _, _, rfl, h⟩
  · cases h
theorem mG_some {st : List Value} {K : Int32 → Nat → Nat → List Value → tvR} {q : tvO × tvS} (h : mG st K = some q) : ∃ n k o r, st = .int n :: .ref k :: .ref o :: r ∧ K n k o r = some q := by
  unfold mG at h; split at h
  · exact ⟨_, _, _, _, rfl, h⟩
  · cases h
theorem m1I_some {st : List Value} {K : Int32 → tvR} {q : tvO × tvS} (h : m1I st K = some q) : ∃ x, st = [.int x] ∧ K x = some q := by
  unfold m1I at h; split at h
  · exact ⟨_, rfl, h⟩
  · cases h
theorem m1L_some {st : List Value} {K : Int64 → tvR} {q : tvO × tvS} (h : m1L st K = some q) : ∃ x, st = [.long x] ∧ K x = some q := by
  unfold m1L at h; split at h
  · exact ⟨_, rfl, h⟩
  · cases h
theorem m1F_some {st : List Value} {K : UInt32 → tvR} {q : tvO × tvS} (h : m1F st K = some q) : ∃ x, st = [.float x] ∧ K x = some q := by
  unfold m1F at h; split at h
  · exact ⟨_, rfl, h⟩
  · cases h
theorem m0_some {st : List Value} {K : tvR} {q : tvO × tvS} (h : m0 st K = some q) : st = [] ∧ K = some q := by
  unfold m0 at h; split at h
  · exact ⟨rfl, h⟩
  · cases h
theorem mP_some {p : Option pvI} {K : Nat → Nat → tvR} {q : tvO × tvS} (h : mP p K = some q) : ∃ a l ci f r3, p = some (.putfield a, l, ci, f, r3) ∧ K ci f = some q := by
  unfold mP at h; split at h
  · exact ⟨_, _, _, _, _, rfl, h⟩
  · cases h
theorem mD_some {d : Nat} {K : Nat → tvR} {q : tvO × tvS} (h : mD d K = some q) : ∃ d', d = d' + 1 ∧ K d' = some q := by
  cases d with
  | zero => cases h
  | succ d => exact ⟨d, rfl, h⟩
/-! THE SIMULATION -/
def mo (o : tvO) : pvO := match o with
  | .inl v => .inl v
  | .inr (_, k) => .inr k
def simG (L : Nat) (xs : Nat → Int32) (d M pc : Nat) (pls : pvL) (pst : List Value) (h : pvH) (o : tvO) (σ' : tvS) : Prop :=
  ∃ h', pvX (PP L xs) (d + 4) M pc pls pst h (mo o, h') ∧ tvRel σ' h' ∧ ∀ t k, o = .inr (t, k) → (h'.1 k).1 = t
def simI (L : Nat) (xs : Nat → Int32) (n : Nat) : Prop := ∀ (d M pc : Nat) (ls : tvL) (st : List Value) (σ : tvS) (o : tvO) (σ' : tvS) (pls : pvL) (h : pvH), tv_exec L xs n d M pc ls st σ = some (o, σ') → tvRel σ h → tvLs (rh σ) ls pls → ls.length = (miP M).2.2.1 → simG L xs d M pc pls (st.map (mv (rh σ))) h o σ'
section SIM
variable {L : Nat} {xs : Nat → Int32} {n d M pc : Nat} {ls : tvL} {st : List Value} {σ : tvS} {o : tvO} {σ' : tvS} {pls : pvL} {h : pvH}
theorem simG.step {pc' : Nat} {pls' : pvL} {pst pst' : List Value} {h' : pvH} (e : pv_step (PP L xs) M pc pls pst h = some (.inl (pc', pls', pst', h'))) (k : simG L xs d M pc' pls' pst' h' o σ') : simG L xs d M pc pls pst h o σ' := by
  obtain ⟨h2, k1, k2⟩ := k
  exact ⟨h2, pvX.step e k1, k2⟩
theorem tv_call_sim (ih : simI L xs n) {M' k : Nat} (hR : tvRel σ h) (hl : tvLs (rh σ) ls pls) (hlen : ls.length = (miP M).2.2.1)
    (hc : tv_call (tv_exec L xs n) (fun pc' ls' st' σ' => tv_exec L xs n d M pc' ls' st' σ') d M pc M' k ls st σ = some (o, σ'))
    (hs : pv_step (PP L xs) M pc pls (st.map (mv (rh σ))) h = pv_call (PP L xs) M' k (pc + 3) (st.map (mv (rh σ))) h) : simG L xs d M pc pls (st.map (mv (rh σ))) h o σ' := by
  unfold tv_call at hc
  obtain ⟨hb, hcx⟩ := cond_some hc
  clear hc
  have hc := hcx
  clear hcx
  rw [Bool.and_eq_true, Bool.and_eq_true] at hb
  obtain ⟨b1, b2, b3⟩ := hb
  have b1 := Nat.le_of_ble_eq_true b1
  have b2 := Nat.le_of_ble_eq_true b2
  have b3 := Nat.le_of_ble_eq_true b3
  obtain ⟨d', hd, hc⟩ := mD_some hc
  subst hd
  · have hs' : pv_step (PP L xs) M pc pls (st.map (mv (rh σ))) h = some (.inr (.inl (M', (st.take k).reverse.map (mv (rh σ)), (st.drop k).map (mv (rh σ)), pc + 3, h))) := by
      rw [hs]
      unfold pv_call
      rw [← List.map_drop, ← List.map_take, mv_cats, mv_cats, List.length_map, if_pos ⟨b1, b2, b3⟩, List.map_reverse]
    have harg : (tv_pad (miP M').2.2.1 (tv_arg (st.take k).reverse)).length = (miP M').2.2.1 := by
      refine pad_len _ _ ?_
      rw [arg_len, List.map_reverse, List.sum_reverse]
      exact b3
    rcases bC_inv hc with ⟨v, σ2, e1, e2, e3⟩ | ⟨t, j, σ2, e1, e3⟩
    · obtain ⟨h2, c1, c2, c3⟩ := ih d' M' 0 _ _ σ _ _ _ h e1 hR (args_ls (rh σ) _ _) harg
      obtain ⟨f1, f2⟩ := cond_some e3
      obtain ⟨h3, k1, k2⟩ := ih (d' + 1) M (pc + 3) _ _ σ2 _ _ pls h2 f2 c2 (dj_ls hR c2 hl) (by rw [List.length_map]; exact hlen)
      refine ⟨h3, ?_, k2⟩
      refine pvX.call (d := d' + 4) hs' c1 ?_
      rw [List.map_append, e2, ← chk_st hR c2 _ f1] at k1
      exact k1
    · obtain ⟨h2, c1, c2, c3⟩ := ih d' M' 0 _ _ σ _ _ _ h e1 hR (args_ls (rh σ) _ _) harg
      have ht := c3 t j rfl
      cases hh : pv_hnd (miP M).2.2.2 pc t with
      | none =>
        rw [hh] at e3
        have e3 : some (Sum.inr (t, j), σ2) = some (o, σ') := e3
        cases e3
        exact ⟨h2, pvX.thr (d := d' + 4) hs' c1 (by rw [ht]; exact hh), c2, c3⟩
      | some hp =>
        rw [hh] at e3
        have e3 : tv_exec L xs n (d' + 1) M hp (ls.map dj) [.ref (239 + j)] σ2 = some (o, σ') := e3
        obtain ⟨h3, k1, k2⟩ := ih (d' + 1) M hp _ _ σ2 _ _ pls h2 e3 c2 (dj_ls hR c2 hl) (by rw [List.length_map]; exact hlen)
        refine ⟨h3, pvX.hnd (d := d' + 4) hs' c1 (by rw [ht]; exact hh) ?_, k2⟩
        have em : mv (rh σ2) (.ref (239 + j)) = .ref j := by
          show Value.ref (if 239 + j < 239 then _ else 239 + j - 239) = _
          rw [if_neg (by omega), Nat.add_sub_cancel_left]
        rw [List.map_cons, em] at k1
        exact k1
theorem fit_ref {t : FieldType} (hk : tv_kd t = 2) (k : Nat) : pv_fit t (.ref k) = true := by
  cases t <;> first | rfl | cases hk
theorem tv_grow_sim (ih : simI L xs n) {i : Instr} {len : Nat} (hR : tvRel σ h) (hl : tvLs (rh σ) ls pls) (hlen : ls.length = (miP M).2.2.1)
    (hc : tv_grow (tv_exec L xs n) (d + 1) M pc ls st σ = some (o, σ'))
    (hs : ∀ st', pv_step (PP L xs) M pc pls st' h = pv_call (PP L xs) 440 2 (pc + 3) st' h) : simG L xs (d + 1) M pc pls (st.map (mv (rh σ))) h o σ' := by
  unfold tv_grow at hc
  obtain ⟨m, k, o', r, hst, hc2⟩ := mG_some hc
  clear hc
  subst hst
  have hc := hc2
  obtain ⟨a, len', ci, f, r3', hi, hc⟩ := mP_some hc
  · · obtain ⟨hb, hcx⟩ := cond_some hc
      clear hc
      have hc := hcx
      clear hcx
      obtain ⟨hb2, hcx⟩ := cond_some hc
      clear hc
      have hc := hcx
      clear hcx
      simp only [Bool.and_eq_true, Bool.not_eq_true'] at hb
      obtain ⟨g1, g2, g3, g4, g5, g6, g7, g8⟩ := hb
      have g2 := Nat.eq_of_beq_eq_true g2
      have g3 := Nat.blt_eq.mp g3
      have g4 := Nat.eq_of_beq_eq_true g4
      have g6 := Nat.eq_of_beq_eq_true g6
      have g8 := Nat.le_of_ble_eq_true g8
      unfold gwOK at hb2
      simp only [Bool.and_eq_true] at hb2
      obtain ⟨w1, w2, w3, w4, w5⟩ := hb2
      have w1 := of_decide_eq_true w1
      have w2 := Nat.blt_eq.mp w2
      have w3 := Nat.le_of_ble_eq_true w3
      have w4 := Nat.le_of_ble_eq_true w4
      have w5 := Nat.le_of_ble_eq_true w5
      have hk : k < 239 := grw_lt g1
      have ho : o' < 239 := lenN_lt (by omega)
      obtain ⟨p1, F, p2, p3⟩ := rel_arr hR hk
      obtain ⟨q1, G, q2, q3⟩ := rel_arr hR ho
      have hle : le σ k = ln σ k := by unfold le; rw [g1]; rfl
      have hlo : le σ o' = lenN o' := le_obj ho (by omega)
      rw [hle, grw_tag k hk g1] at p2
      rw [hlo] at q2
      have hm : h.2 = rm σ := hR.1
      have hrun := run440 (L := L) (xs := xs) (d := d + 3) (n := m) h p2 p1 w1 w2 w3 (by rw [hm]; exact w4) (by rw [hm]; exact w5)
      have hrel := rel_gw hR (n := ix m) g1 hk (by omega) ho g3 g4 (by rw [show tagN o' - 10 = ci by omega]; exact g6) w2 p2 q2
      have em : ((Value.int m :: .ref k :: .ref o' :: r).map (mv (rh σ))) = .int m :: .ref (rh σ k) :: .ref (rh σ o') :: r.map (mv (rh σ)) := by
        rw [List.map_cons, List.map_cons, List.map_cons, mv_ref hk, mv_ref ho]; rfl
      rw [em]
      obtain ⟨h3, k1, k2⟩ := ih (d + 1) M (pc + 6) _ _ (gw σ k (ix m)) _ _ pls _ hc hrel (dj_ls hR hrel hl) (by rw [List.length_map]; exact hlen)
      refine ⟨h3, ?_, k2⟩
      have hsum : ((r.map (mv (rh σ))).map Value.category).sum + 1 ≤ 24 := by
        rw [mv_cats]
        have : (((Value.ref 0 :: r).map Value.category).sum) = 1 + (r.map Value.category).sum := rfl
        omega
      refine pvX.call (d := d + 4) (M' := 440) (av := [.ref (rh σ k), .int m]) (rest := .ref (rh σ o') :: r.map (mv (rh σ))) (pc' := pc + 3) (h1 := h) ?_ hrun ?_
      · rw [hs]
        unfold pv_call
        rw [if_pos]
        · rfl
        · refine ⟨by simp, ?_, Nat.le_of_ble_eq_true rfl⟩
          show 1 + ((r.map (mv (rh σ))).map Value.category).sum ≤ 24
          omega
      · have er : r.map (mv (rh (gw σ k (ix m)))) = r.map (mv (rh σ)) := by
          refine List.map_congr_left fun v hv => ?_
          have hnv := List.all_eq_true.mp g7 v hv
          cases v with
          | ref j =>
            have hjk : j ≠ k := by
              intro e
              subst e
              have : (!(Nat.beq j j)) = true := hnv
              rw [Nat.beq_refl] at this
              cases this
            show Value.ref (if j < 239 then _ else _) = Value.ref (if j < 239 then _ else _)
            rw [rh_gw, if_neg hjk]
          | _ => rfl
        rw [er] at k1
        refine pvX.step ?_ k1
        have hne : rh σ o' ≠ h.2.1 := Nat.ne_of_lt q1
        have hcell : ∀ c c2, (pv_put (pv_new h c) h.2.1 c2).1 (rh σ o') = (tagN o', lenN o', G) := by
          intro c c2
          show va_up (va_up h.1 h.2.1 c) h.2.1 c2 (rh σ o') = _
          rw [va_up_ne _ _ hne, va_up_ne _ _ hne, q2]
        unfold pv_step
        rw [show pv_ins (PP L xs) M (pc + 3) = _ from hi]
        show pv_stx (pc + 3 + 3) pls (pv_pfld (PP L xs) M (.ref h.2.1 :: .ref (rh σ o') :: r.map (mv (rh σ))) _ ci f) = _
        unfold pv_pfld
        simp only []
        rw [hcell, if_pos]
        · rw [← g2]; rfl
        · exact ⟨⟨g2, Nat.lt_succ_of_lt q1, g3⟩, fit_ref g6 _, Or.inl g5⟩
theorem sw_sim {i : Instr} {len r1 r2 r3 : Nat} (hi : insP M pc = some (i, len, r1, r2, r3)) {x : Int32} {r : List Value} {K : Nat → tvR} {q : tvO × tvS} (hsw : (∃ a b c e, i = .tableswitch a b c e) ∨ (∃ a b, i = .lookupswitch a b)) (hc : swk M pc x K = some q) :
    ∃ pc', K pc' = some q ∧ ∀ (pls : pvL) (r : List Value) (h : pvH), pv_step (PP L xs) M pc pls (.int x :: r) h = some (.inl (pc', pls, r, h)) := by
  unfold swk at hc
  rw [hi] at hc
  have hc : (tv_sw i pc x).bind K = some q := hc
  cases hw : tv_sw i pc x with
  | none => rw [hw] at hc; cases hc
  | some pc' =>
    rw [hw] at hc
    refine ⟨pc', hc, fun pls r h => ?_⟩
    have hgo : ∀ z : Int, tv_go z = some pc' → pv_goI z pls r h = some (.inl (pc', pls, r, h)) := by
      intro z hz
      unfold tv_go at hz
      unfold pv_goI
      by_cases e : 0 ≤ z
      · rw [if_pos e] at hz ⊢
        rw [Option.some.inj hz]
      · rw [if_neg e] at hz; cases hz
    rcases hsw with ⟨a, b, c, e, rfl⟩ | ⟨a, b, rfl⟩
    · unfold tv_sw at hw
      simp only [] at hw
      unfold pv_step
      rw [show pv_ins (PP L xs) M pc = _ from hi]
      simp only []
      by_cases e1 : x.toInt < b ∨ c < x.toInt
      · rw [if_pos e1] at hw ⊢
        exact hgo _ hw
      · rw [if_neg e1] at hw ⊢
        split at hw
        · rename_i off ho
          rw [ho]
          exact hgo _ hw
        · cases hw
    · unfold tv_sw at hw
      simp only [] at hw
      unfold pv_step
      rw [show pv_ins (PP L xs) M pc = _ from hi]
      simp only []
      split at hw
      · rename_i e1
        rw [if_pos e1]
        exact hgo _ hw
      · cases hw
theorem opk_some {o' : Option (Bool × tvL × List Value × tvS)} {K : tvL → List Value → tvS → tvR} {q : tvO × tvS} (hc : opk o' K = some q) : ∃ ls st σ, o' = some (true, ls, st, σ) ∧ K ls st σ = some q := by
  cases o' with
  | none => cases hc
  | some w =>
    obtain ⟨g, ls, st, σ⟩ := w
    obtain ⟨e, hc⟩ := cond_some hc
    subst e
    exact ⟨ls, st, σ, rfl, hc⟩
theorem tv_op_simG (ih : simI L xs n) {i : Instr} {len r1 r2 r3 : Nat} (hi : insP M pc = some (i, len, r1, r2, r3)) (hR : tvRel σ h) (hl : tvLs (rh σ) ls pls) (hlen : ls.length = (miP M).2.2.1)
    (hc : opk (tv_op L xs i r1 r2 r3 ls st σ) (fun ls' st' σ' => tv_exec L xs n d M (pc + (pv_len i).getD 0) ls' st' σ') = some (o, σ')) : simG L xs d M pc pls (st.map (mv (rh σ))) h o σ' := by
  obtain ⟨ls', st', σ2, e1, e2⟩ := opk_some hc
  obtain ⟨pls', h', f1, f2, f3, f4⟩ := tv_op_sim hi hR hl hlen e1
  exact simG.step f1 (ih _ _ _ _ _ _ _ _ _ _ e2 f2 f3 f4)
set_option maxHeartbeats 8000000 in
theorem tv_simS (ih : simI L xs n) : simI L xs (n + 1) := by
  intro d M pc ls st σ o σ' pls h hc hR hl hlen
  unfold tv_exec at hc
  cases hi : insP M pc with
  | none => rw [hi] at hc; cases hc
  | some q =>
    obtain ⟨i, len, r1, r2, r3⟩ := q
    rw [hi] at hc
    have hi' : pv_ins (PP L xs) M pc = some (i, len, r1, r2, r3) := hi
    cases i
    case ifCond c off =>
      obtain ⟨x, r, hst, hc2⟩ := mI_some hc
      clear hc
      subst hst
      have hc := hc2
      · cases hb : pv_c1 c x with
        | true =>
          rw [hb] at hc
          refine simG.step (pc' := r1) (pls' := pls) (pst' := r.map (mv (rh σ))) (h' := h) ?_ (ih _ _ _ _ _ _ _ _ _ _ hc hR hl hlen)
          unfold pv_step
          rw [hi']
          show some (Sum.inl (if pv_c1 c x = true then r1 else pc + 3, pls, r.map (mv (rh σ)), h)) = _
          rw [hb, if_pos rfl]
        | false =>
          rw [hb] at hc
          refine simG.step (pc' := pc + 3) (pls' := pls) (pst' := r.map (mv (rh σ))) (h' := h) ?_ (ih _ _ _ _ _ _ _ _ _ _ hc hR hl hlen)
          unfold pv_step
          rw [hi']
          show some (Sum.inl (if pv_c1 c x = true then r1 else pc + 3, pls, r.map (mv (rh σ)), h)) = _
          rw [hb, if_neg (by decide)]
    case if_icmp c off =>
      obtain ⟨x, y, r, hst, hc2⟩ := mII_some hc
      clear hc
      subst hst
      have hc := hc2
      · cases hb : pv_c2 c x y with
        | true =>
          rw [hb] at hc
          refine simG.step (pc' := r1) (pls' := pls) (pst' := r.map (mv (rh σ))) (h' := h) ?_ (ih _ _ _ _ _ _ _ _ _ _ hc hR hl hlen)
          unfold pv_step
          rw [hi']
          show some (Sum.inl (if pv_c2 c x y = true then r1 else pc + 3, pls, r.map (mv (rh σ)), h)) = _
          rw [hb, if_pos rfl]
        | false =>
          rw [hb] at hc
          refine simG.step (pc' := pc + 3) (pls' := pls) (pst' := r.map (mv (rh σ))) (h' := h) ?_ (ih _ _ _ _ _ _ _ _ _ _ hc hR hl hlen)
          unfold pv_step
          rw [hi']
          show some (Sum.inl (if pv_c2 c x y = true then r1 else pc + 3, pls, r.map (mv (rh σ)), h)) = _
          rw [hb, if_neg (by decide)]
    case ifnull off =>
      obtain ⟨r, ⟨k, hst, hc2⟩ | ⟨hst, hc2⟩⟩ := mR_some hc
      · clear hc
        subst hst
        have hc := hc2
        exact simG.step (by unfold pv_step; rw [hi']; rfl) (ih _ _ _ _ _ _ _ _ _ _ hc hR hl hlen)
      · clear hc
        subst hst
        have hc := hc2
        exact simG.step (by unfold pv_step; rw [hi']; rfl) (ih _ _ _ _ _ _ _ _ _ _ hc hR hl hlen)
    case goto off =>
      exact simG.step (by unfold pv_step; rw [hi']) (ih _ _ _ _ _ _ _ _ _ _ hc hR hl hlen)
    case tableswitch a b c e =>
      obtain ⟨x, r, hst, hc2⟩ := mI_some hc
      clear hc
      subst hst
      have hc := hc2
      obtain ⟨pc', e1, e2⟩ := sw_sim (L := L) (xs := xs) (r := []) hi (Or.inl ⟨_, _, _, _, rfl⟩) hc
      exact simG.step (e2 _ _ _) (ih _ _ _ _ _ _ _ _ _ _ e1 hR hl hlen)
    case lookupswitch a b =>
      obtain ⟨x, r, hst, hc2⟩ := mI_some hc
      clear hc
      subst hst
      have hc := hc2
      obtain ⟨pc', e1, e2⟩ := sw_sim (L := L) (xs := xs) (r := []) hi (Or.inr ⟨_, _, rfl⟩) hc
      exact simG.step (e2 _ _ _) (ih _ _ _ _ _ _ _ _ _ _ e1 hR hl hlen)
    case new a =>
      obtain ⟨hb, hcx⟩ := cond_some (show cond _ _ none = some (o, σ') from hc)
      clear hc
      have hc := hcx
      clear hcx
      obtain ⟨hb2, hcx⟩ := cond_some hc
      clear hc
      have hc := hcx
      clear hcx
      simp only [Bool.and_eq_true] at hb
      obtain ⟨b1, b2, b3, b4⟩ := hb
      have b1 := Nat.eq_of_beq_eq_true b1
      have b2 := Nat.eq_of_beq_eq_true b2
      have b3 := Nat.le_of_ble_eq_true b3
      have b4 : (miP M).2.2.2 = [] := List.isEmpty_iff.mp b4
      unfold xnOK at hb2
      rw [Bool.and_eq_true] at hb2
      have c1 := Nat.le_of_ble_eq_true hb2.1
      have c2 := Nat.le_of_ble_eq_true hb2.2
      cases hc
      have hm : h.2 = rm σ := hR.1
      refine ⟨pv_new h (1000 + r1, 6, fun _ => .null), pvX.ret ?_, rel_xn hR _ _, ?_⟩
      · unfold pv_step
        rw [hi']
        show (if r3 = 4 then (if (1 ≤ h.2.2.1 ∧ nfP r1 ≤ h.2.2.2) ∧ ((st.map (mv (rh σ))).map Value.category).sum ≤ 24 ∧ (miP M).2.2.2 = [] then some (Sum.inr (Sum.inr (Sum.inr h.2.1, pv_new h (1000 + r1, nfP r1, fun _ => .null)))) else none) else _) = _
        rw [if_pos b1, b2, mv_cats, if_pos ⟨⟨by rw [hm]; exact c1, by rw [hm]; exact c2⟩, b3, b4⟩]
        show _ = some (Sum.inr (Sum.inr (Sum.inr (rm σ).1, _)))
        rw [← hm]
      · intro t k e
        cases e
        show (va_up h.1 h.2.1 _ (rm σ).1).1 = _
        rw [← hm, va_up_self]
    case invokevirtual a =>
      have hc : cond (Nat.beq r1 431) _ (cond (Nat.beq r1 433) _ _) = some (o, σ') := hc
      cases h1 : Nat.beq r1 431 with
      | true =>
        rw [h1] at hc
        have e1 := Nat.eq_of_beq_eq_true h1
        obtain ⟨j, r, hst, hcA⟩ := mF_some hc
        obtain ⟨hb, hcB⟩ := cond_some hcA
        obtain ⟨d', hd, hcC⟩ := mD_some hcB
        simp only [Bool.and_eq_true] at hb
        obtain ⟨b1, b2, b3, b4⟩ := hb
        have b1 := Nat.eq_of_beq_eq_true b1
        have b2 := Nat.eq_of_beq_eq_true b2
        have b3 := Nat.blt_eq.mp b3
        have b4 := Nat.le_of_ble_eq_true b4
        clear hc hcA hcB
        subst e1 b1 b2 hst hd
        obtain ⟨h3, k1, k2⟩ := ih _ _ _ _ _ _ _ _ _ _ hcC hR hl hlen
        refine ⟨h3, ?_, k2⟩
        refine pvX.call (d := d' + 4) (st_iv (n := 1) hi b3 rfl (by decide) (by simp) ?_ (Nat.le_of_ble_eq_true rfl)) (run431 b3 h) k1
        show ((r.map (mv (rh σ))).map Value.category).sum ≤ 24
        rw [mv_cats]
        exact b4
      | false =>
        rw [h1] at hc
        cases h2 : Nat.beq r1 433 with
        | true =>
          rw [h2] at hc
          have e1 := Nat.eq_of_beq_eq_true h2
          obtain ⟨i, j, r, hst, hcA⟩ := mIF_some hc
          obtain ⟨hb, hcB⟩ := cond_some hcA
          obtain ⟨d', hd, hcC⟩ := mD_some hcB
          obtain ⟨hb5, hcD⟩ := cond_some hcC
          simp only [Bool.and_eq_true] at hb
          obtain ⟨b1, b2, b3, b4⟩ := hb
          have b1 := Nat.eq_of_beq_eq_true b1
          have b2 := Nat.eq_of_beq_eq_true b2
          have b3 := Nat.blt_eq.mp b3
          have b4 := Nat.le_of_ble_eq_true b4
          clear hc hcA hcB hcC
          subst e1 b1 b2 hst hd
          obtain ⟨h3, k1, k2⟩ := ih _ _ _ _ _ _ _ _ _ _ hcD hR hl hlen
          refine ⟨h3, ?_, k2⟩
          refine pvX.call (d := d' + 4) (st_iv (n := 2) hi b3 rfl (by decide) (by simp) ?_ (Nat.le_of_ble_eq_true rfl)) (run433 (d := d' + 1) b3 hb5 h) k1
          show ((r.map (mv (rh σ))).map Value.category).sum ≤ 24
          rw [mv_cats]
          exact b4
        | false =>
          rw [h2] at hc
          obtain ⟨hb, hcx⟩ := cond_some (show cond _ _ none = some (o, σ') from hc)
          clear hc
          have hc := hcx
          clear hcx
          rw [Bool.and_eq_true] at hb
          refine tv_call_sim ih hR hl hlen hc ?_
          unfold pv_step
          rw [hi']
          show (if pv_recv (PP L xs) r3 (st.map (mv (rh σ)))[r2 - 1]? h = true ∧ 1 ≤ r2 then _ else _) = _
          rw [if_pos]
          refine ⟨?_, Nat.le_of_ble_eq_true hb.2⟩
          have hb1 := hb.1
          unfold tv_recv at hb1
          split at hb1
          · rename_i k hk
            rw [Bool.and_eq_true] at hb1
            have hk2 := Nat.blt_eq.mp hb1.2
            obtain ⟨p1, F, p2, p3⟩ := rel_arr hR hk2
            rw [List.getElem?_map, hk]
            show pv_recv (PP L xs) r3 (some (mv (rh σ) (.ref k))) h = true
            rw [mv_ref hk2]
            exact decide_eq_true ⟨by rw [p2]; exact Nat.eq_of_beq_eq_true hb1.1, p1⟩
          · cases hb1
    case invokestatic a =>
      obtain ⟨hb, hcx⟩ := cond_some (show cond _ _ none = some (o, σ') from hc)
      clear hc
      have hc := hcx
      clear hcx
      have e3 := Nat.eq_of_beq_eq_true hb
      subst e3
      cases h1 : Nat.beq r1 440 with
      | true =>
        rw [h1] at hc
        have e1 := Nat.eq_of_beq_eq_true h1
        subst e1
        cases d with
        | zero => cases hc
        | succ d =>
          obtain ⟨hb5, hcx⟩ := cond_some (show cond _ _ none = some (o, σ') from hc)
          clear hc
          have hc := hcx
          clear hcx
          have e2 := Nat.eq_of_beq_eq_true hb5
          subst e2
          refine tv_grow_sim (i := .goto 0) (len := 0) ih hR hl hlen hc (fun st' => ?_)
          unfold pv_step
          rw [hi']
          rfl
      | false =>
        rw [h1] at hc
        refine tv_call_sim ih hR hl hlen hc ?_
        unfold pv_step
        rw [hi']
        rfl
    case ireturn =>
      obtain ⟨x, hst, hc2⟩ := m1I_some hc
      clear hc
      subst hst
      have hc := hc2
      · unfold rtI at hc
        split at hc
        · rename_i hm
          cases hc
          exact ⟨h, pvX.ret (st_ret hi hm (by simp [narrow])), hR, fun t k e => by cases e⟩
        · rename_i hm
          obtain ⟨hb, hcx⟩ := cond_some hc
          clear hc
          have hc := hcx
          clear hcx
          cases hc
          refine ⟨h, pvX.ret (st_ret hi hm ⟨?_, by simp⟩), hR, fun t k e => by cases e⟩
          have := fit_bool hb
          unfold pv_fit at this
          rw [Bool.and_eq_true] at this
          exact of_decide_eq_true this.1
        · cases hc
    case lreturn =>
      obtain ⟨x, hst, hc2⟩ := m1L_some hc
      clear hc
      subst hst
      have hc := hc2
      · unfold rtL at hc
        split at hc
        · rename_i hm
          cases hc
          refine ⟨h, pvX.ret ?_, hR, fun t k e => by cases e⟩
          unfold pv_step
          rw [hi']
          show (match [Value.long x], (miP M).2.1 with | [Value.long x], some FieldType.long => some (Sum.inr (Sum.inr (Sum.inl (some (Value.long x)), h))) | _, _ => none) = _
          rw [hm]
          rfl
        · cases hc
    case areturn =>
      obtain ⟨x, hst, hc2⟩ := m1F_some hc
      clear hc
      subst hst
      have hc := hc2
      · unfold rtF at hc
        split at hc
        · rename_i hm
          cases hc
          refine ⟨h, pvX.ret ?_, hR, fun t k e => by cases e⟩
          unfold pv_step
          rw [hi']
          show (match [Value.float x], (miP M).2.1 with | [v], some _ => if pv_isR v = true then some (Sum.inr (Sum.inr (Sum.inl (some v), h))) else none | _, _ => none) = _
          rw [hm]
          rfl
        · cases hc
    case return_ =>
      obtain ⟨hst, hc2⟩ := m0_some hc
      clear hc
      subst hst
      have hc := hc2
      · unfold rtV at hc
        split at hc
        · rename_i hm
          cases hc
          refine ⟨h, pvX.ret ?_, hR, fun t k e => by cases e⟩
          unfold pv_step
          rw [hi']
          show (match ([] : List Value), (miP M).2.1 with | [], none => some (Sum.inr (Sum.inr (Sum.inl none, h))) | _, _ => none) = _
          rw [hm]
          rfl
        · cases hc
    all_goals (simp only [tv_G] at hc; exact tv_op_simG ih hi hR hl hlen hc)
theorem tv_sim (L : Nat) (xs : Nat → Int32) : ∀ n, simI L xs n := by
  intro n
  induction n with
  | zero => intro d M pc ls st σ o σ' pls h hc; cases hc
  | succ n ih => exact tv_simS ih
theorem rn_sim {r : tvO × tvS} (hr : rn L xs d M pc ls st σ = some r) (hR : tvRel σ h) (hl : tvLs (rh σ) ls pls) (hlen : ls.length = (miP M).2.2.1) : simG L xs d M pc pls (st.map (mv (rh σ))) h r.1 r.2 := by
  obtain ⟨n, hn⟩ := rn_to L xs hr
  exact tv_sim L xs n d M pc ls st σ r.1 r.2 pls h (hn n (Nat.le_refl n)) hR hl hlen
end SIM
