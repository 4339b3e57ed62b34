/-! THE NAMED MACHINE IS THE PURE ONE: runs without fuel of the pure machine -/
theorem pv_mono (P : pvP) : ∀ (n d M pc : Nat) (ls : pvL) (st : List Value) (h : pvH) (r : pvO × pvH), pv_exec P n d M pc ls st h = some r → pv_exec P (n + 1) d M pc ls st h = some r := by
  intro n
  induction n with
  | zero => intro d M pc ls st h r e; cases e
  | succ n ih =>
    intro d M pc ls st h r e
    unfold pv_exec at e ⊢
    cases hs : pv_step P M pc ls st h with
    | none => rw [hs] at e; cases e
    | some q =>
      rw [hs] at e
      rcases q with ⟨pc', ls', st', h'⟩ | ⟨M', av, rest, pc', h'⟩ | f
      · exact ih _ _ _ _ _ _ _ e
      · cases d with
        | zero => cases e
        | succ d' =>
          simp only [] at e ⊢
          cases hc : pv_exec P n d' M' 0 (lv_args 0 av) [] h' with
          | none => rw [hc] at e; cases e
          | some q =>
            rw [hc] at e
            rw [ih _ _ _ _ _ _ _ hc]
            rcases q with ⟨v | k, h2⟩
            · exact ih _ _ _ _ _ _ _ e
            · simp only [] at e ⊢
              cases hh : pv_hnd (pv_mi P M).2.2.2 pc (h2.1 k).1 with
              | none => rw [hh] at e; exact e
              | some hp => rw [hh] at e; exact ih _ _ _ _ _ _ _ e
      · exact e
theorem pv_mono' {P : pvP} {n m : Nat} (hnm : n ≤ m) {d M pc : Nat} {ls : pvL} {st : List Value} {h : pvH} {r : pvO × pvH} (e : pv_exec P n d M pc ls st h = some r) : pv_exec P m d M pc ls st h = some r := by
  induction hnm with
  | refl => exact e
  | step _ ih => exact pv_mono P _ _ _ _ _ _ _ _ ih
def pvX (P : pvP) (d M pc : Nat) (ls : pvL) (st : List Value) (h : pvH) (r : pvO × pvH) : Prop := ∃ n, pv_exec P n d M pc ls st h = some r
section PVX
variable {P : pvP} {d M pc : Nat} {ls : pvL} {st : List Value} {h : pvH} {r : pvO × pvH}
theorem pvX.step {pc' : Nat} {ls' : pvL} {st' : List Value} {h' : pvH} (e : pv_step P M pc ls st h = some (.inl (pc', ls', st', h'))) (k : pvX P d M pc' ls' st' h' r) : pvX P d M pc ls st h r := by
  obtain ⟨n, k⟩ := k
  exact ⟨n + 1, by unfold pv_exec; rw [e]; exact k⟩
theorem pvX.ret (e : pv_step P M pc ls st h = some (.inr (.inr r))) : pvX P d M pc ls st h r := ⟨1, by unfold pv_exec; rw [e]⟩
theorem pvX.call {M' : Nat} {av rest : List Value} {pc' : Nat} {h1 h2 : pvH} {v : Option Value} (e : pv_step P M pc ls st h = some (.inr (.inl (M', av, rest, pc', h1)))) (c : pvX P d M' 0 (lv_args 0 av) [] h1 (.inl v, h2)) (k : pvX P (d + 1) M pc' ls (v.toList ++ rest) h2 r) : pvX P (d + 1) M pc ls st h r := by
  obtain ⟨n1, c⟩ := c
  obtain ⟨n2, k⟩ := k
  refine ⟨max n1 n2 + 1, ?_⟩
  unfold pv_exec
  rw [e]
  simp only []
  rw [pv_mono' (Nat.le_max_left n1 n2) c]
  exact pv_mono' (Nat.le_max_right n1 n2) k
theorem pvX.thr {M' : Nat} {av rest : List Value} {pc' : Nat} {h1 h2 : pvH} {k : Nat} (e : pv_step P M pc ls st h = some (.inr (.inl (M', av, rest, pc', h1)))) (c : pvX P d M' 0 (lv_args 0 av) [] h1 (.inr k, h2)) (hn : pv_hnd (pv_mi P M).2.2.2 pc (h2.1 k).1 = none) : pvX P (d + 1) M pc ls st h (.inr k, h2) := by
  obtain ⟨n1, c⟩ := c
  refine ⟨n1 + 1, ?_⟩
  unfold pv_exec
  rw [e]
  simp only []
  rw [c]
  simp only []
  rw [hn]
theorem pvX.hnd {M' : Nat} {av rest : List Value} {pc' hp : Nat} {h1 h2 : pvH} {k : Nat} (e : pv_step P M pc ls st h = some (.inr (.inl (M', av, rest, pc', h1)))) (c : pvX P d M' 0 (lv_args 0 av) [] h1 (.inr k, h2)) (hn : pv_hnd (pv_mi P M).2.2.2 pc (h2.1 k).1 = some hp) (K : pvX P (d + 1) M hp ls [.ref k] h2 r) : pvX P (d + 1) M pc ls st h r := by
  obtain ⟨n1, c⟩ := c
  obtain ⟨n2, K⟩ := K
  refine ⟨max n1 n2 + 1, ?_⟩
  unfold pv_exec
  rw [e]
  simp only []
  rw [pv_mono' (Nat.le_max_left n1 n2) c]
  simp only []
  rw [hn]
  exact pv_mono' (Nat.le_max_right n1 n2) K
end PVX
/-! locals of a call -/
theorem arg_len : ∀ (av : List Value), (tv_arg av).length = (av.map Value.category).sum := by
  intro av
  induction av with
  | nil => rfl
  | cons v r ih =>
    have hc : v.category = 1 ∨ v.category = 2 := by cases v <;> first | exact Or.inl rfl | exact Or.inr rfl
    rcases hc with hc | hc
    · have : tv_arg (v :: r) = v :: tv_arg r := by show cond (Nat.beq v.category 2) _ _ = _; rw [hc]; rfl
      rw [this, List.length_cons, ih, List.map_cons, List.sum_cons, hc, Nat.add_comm]
    · have : tv_arg (v :: r) = v :: jv :: tv_arg r := by show cond (Nat.beq v.category 2) _ _ = _; rw [hc]; rfl
      rw [this, List.length_cons, List.length_cons, ih, List.map_cons, List.sum_cons, hc]; omega
theorem pad_len : ∀ (n : Nat) (l : List Value), l.length ≤ n → (tv_pad n l).length = n := by
  intro n
  induction n with
  | zero => intro l h; exact Nat.le_zero.mp h
  | succ n ih =>
    intro l h
    cases l with
    | nil => show (tv_pad n []).length + 1 = _; rw [ih [] (Nat.zero_le _)]
    | cons a r => show (tv_pad n r).length + 1 = _; rw [ih r (Nat.le_of_succ_le_succ h)]
theorem pad_at : ∀ (n : Nat) (l : List Value) (i : Nat) (v : Value), (tv_pad n l)[i]? = some v → v = jv ∨ l[i]? = some v := by
  intro n
  induction n with
  | zero => intro l i v h; exact Or.inr h
  | succ n ih =>
    intro l i v h
    cases l with
    | nil =>
      cases i with
      | zero => exact Or.inl (Option.some.inj h).symm
      | succ i => rcases ih [] i v h with h | h
                  · exact Or.inl h
                  · cases h
    | cons a r =>
      cases i with
      | zero => exact Or.inr h
      | succ i => exact ih r i v h
theorem args_at (ρ : Nat → Nat) : ∀ (av : List Value) (b i : Nat) (v : Value), (tv_arg av)[i]? = some v → ndb v → pv_get (lv_args b (av.map (mv ρ))) (b + i) = some (mv ρ v) := by
  intro av
  induction av with
  | nil => intro b i v h; cases h
  | cons a r ih =>
    intro b i v h hn
    have hc : a.category = 1 ∨ a.category = 2 := by cases a <;> first | exact Or.inl rfl | exact Or.inr rfl
    rcases hc with hc | hc
    · have e1 : tv_arg (a :: r) = a :: tv_arg r := by show cond (Nat.beq a.category 2) _ _ = _; rw [hc]; rfl
      have e2 : lv_args b ((a :: r).map (mv ρ)) = (b, mv ρ a) :: lv_args (b + 1) (r.map (mv ρ)) := by
        show (b, mv ρ a) :: lv_args (if (mv ρ a).category = 2 then b + 2 else b + 1) (r.map (mv ρ)) = _
        rw [mv_cat, hc]; rfl
      rw [e1] at h
      rw [e2]
      cases i with
      | zero => rw [Option.some.inj h]; exact pv_get_cons_self
      | succ i =>
        rw [pv_get_cons_ne (by omega), show b + (i + 1) = (b + 1) + i by omega]
        exact ih (b + 1) i v h hn
    · have e1 : tv_arg (a :: r) = a :: jv :: tv_arg r := by show cond (Nat.beq a.category 2) _ _ = _; rw [hc]; rfl
      have e2 : lv_args b ((a :: r).map (mv ρ)) = (b, mv ρ a) :: lv_args (b + 2) (r.map (mv ρ)) := by
        show (b, mv ρ a) :: lv_args (if (mv ρ a).category = 2 then b + 2 else b + 1) (r.map (mv ρ)) = _
        rw [mv_cat, hc]; rfl
      rw [e1] at h
      rw [e2]
      match i with
      | 0 => rw [Option.some.inj h]; exact pv_get_cons_self
      | 1 => exact absurd (Option.some.inj h).symm (hn 0)
      | i + 2 =>
        rw [pv_get_cons_ne (by omega), show b + (i + 2) = (b + 2) + i by omega]
        exact ih (b + 2) i v h hn
theorem args_ls (ρ : Nat → Nat) (av : List Value) (n : Nat) : tvLs ρ (tv_pad n (tv_arg av)) (lv_args 0 (av.map (mv ρ))) := by
  intro i v h hn
  rcases pad_at n _ i v h with rfl | h
  · exact absurd rfl (hn 0)
  · have := args_at ρ av 0 i v h hn
    rwa [Nat.zero_add] at this
/-- what a call leaves of the locals and of the stack -/
theorem mv_same {σ σ2 : tvS} {h h2 : pvH} (hR : tvRel σ h) (hR2 : tvRel σ2 h2) {k : Nat} (hg : grw k = false) : mv (rh σ) (.ref k) = mv (rh σ2) (.ref k) := by
  by_cases hk : k < 239
  · rw [mv_ref hk, mv_ref hk, (hR.2.1 k hk).2.1 hg, (hR2.2.1 k hk).2.1 hg]
  · show Value.ref (if k < 239 then _ else _) = Value.ref (if k < 239 then _ else _)
    rw [if_neg hk, if_neg hk]
theorem dj_ls {σ σ2 : tvS} {h h2 : pvH} (hR : tvRel σ h) (hR2 : tvRel σ2 h2) {ls : tvL} {pls : pvL} (hl : tvLs (rh σ) ls pls) : tvLs (rh σ2) (ls.map dj) pls := by
  intro i v hv hn
  rw [List.getElem?_map] at hv
  cases ha : ls[i]? with
  | none => rw [ha] at hv; cases hv
  | some a =>
    rw [ha] at hv
    have hv : dj a = v := Option.some.inj hv
    cases a with
    | ref k =>
      have hv : cond (grw k) jv (.ref k) = v := hv
      cases hg : grw k with
      | true => rw [hg] at hv; exact absurd hv.symm (hn 0)
      | false =>
        rw [hg] at hv
        have hv : Value.ref k = v := hv
        subst hv
        rw [← mv_same hR hR2 hg]
        exact hl i _ ha hn
    | double x => exact absurd hv.symm (hn x)
    | int x => subst hv; exact hl i _ ha hn
    | long x => subst hv; exact hl i _ ha hn
    | float x => subst hv; exact hl i _ ha hn
    | null => subst hv; exact hl i _ ha hn
    | retAddr x => subst hv; exact hl i _ ha hn
theorem chk_st {σ σ2 : tvS} {h h2 : pvH} (hR : tvRel σ h) (hR2 : tvRel σ2 h2) : ∀ (rest : List Value), tv_chk rest σ σ2 = true → rest.map (mv (rh σ)) = rest.map (mv (rh σ2)) := by
  intro rest hc
  refine List.map_congr_left fun v hv => ?_
  have := List.all_eq_true.mp hc v hv
  cases v with
  | ref k =>
    have this : (!(grw k) || Nat.beq (rh σ k) (rh σ2 k)) = true := this
    rw [Bool.or_eq_true] at this
    rcases this with h1 | h1
    · exact mv_same hR hR2 (by simpa using h1)
    · have e := Nat.eq_of_beq_eq_true h1
      show Value.ref (if k < 239 then _ else _) = Value.ref (if k < 239 then _ else _)
      rw [e]
  | _ => rfl
theorem bC_inv {rk : Nat} {r : tvR} {K : List Value → tvS → tvR} {X : Nat → Nat → tvS → tvR} {q : tvO × tvS} (h : bC rk r K X = some q) :
    (∃ v σ2, r = some (.inl v, σ2) ∧ (∀ ρ, v.toList.map (mv ρ) = v.toList) ∧ K v.toList σ2 = some q) ∨ (∃ t k σ2, r = some (.inr (t, k), σ2) ∧ X t k σ2 = some q) := by
  unfold bC at h
  cases h0 : Nat.beq rk 0 with
  | true =>
    rw [h0] at h
    unfold bV at h
    simp only [cond_true] at h
    split at h
    · exact Or.inl ⟨none, _, rfl, fun ρ => rfl, h⟩
    · exact Or.inr ⟨_, _, _, rfl, h⟩
    · cases h
  | false =>
    rw [h0] at h
    cases h1 : Nat.beq rk 1 with
    | true =>
      rw [h1] at h
      unfold bI at h
      simp only [cond_true, cond_false] at h
      split at h
      · exact Or.inl ⟨some _, _, rfl, fun ρ => rfl, h⟩
      · exact Or.inr ⟨_, _, _, rfl, h⟩
      · cases h
    | false =>
      rw [h1] at h
      cases h2 : Nat.beq rk 2 with
      | true =>
        rw [h2] at h
        unfold bL at h
        simp only [cond_true, cond_false] at h
        split at h
        · exact Or.inl ⟨some _, _, rfl, fun ρ => rfl, h⟩
        · exact Or.inr ⟨_, _, _, rfl, h⟩
        · cases h
      | false =>
        rw [h2] at h
        unfold bF at h
        simp only [cond_false] at h
        split at h
        · exact Or.inl ⟨some _, _, rfl, fun ρ => rfl, h⟩
        · exact Or.inr ⟨_, _, _, rfl, h⟩
        · cases h
theorem cond_some {α : Type} {c : Bool} {x : Option α} {y : α} (h : cond c x none = some y) : c = true ∧ x = some y := by
  cases c with
  | true => exact ⟨rfl, h⟩
  | false => cases h
