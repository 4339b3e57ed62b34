/-! TYPING, BOTH: calls -/
theorem nodup_at : ∀ (l : List Nat) (i j x : Nat), l.Nodup → l[i]? = some x → l[j]? = some x → i = j := by
  intro l
  induction l with
  | nil => intro i j x _ h; cases h
  | cons a r ih =>
    intro i j x hd hi hj
    rw [List.nodup_cons] at hd
    cases i with
    | zero =>
      cases j with
      | zero => rfl
      | succ j =>
        have e : a = x := by simpa using hi
        have hj : r[j]? = some x := by simpa using hj
        exact absurd (List.mem_of_getElem? hj) (by rw [← e]; exact hd.1)
    | succ i =>
      have hi : r[i]? = some x := by simpa using hi
      cases j with
      | zero =>
        have e : a = x := by simpa using hj
        exact absurd (List.mem_of_getElem? hi) (by rw [← e]; exact hd.1)
      | succ j =>
        have hj : r[j]? = some x := by simpa using hj
        rw [ih i j x hd.2 hi hj]
section CALLT
variable {L : Nat} {xs : Nat → Int32} {σ σ' τ τ' : tvS}
variable {K1 K2 Bc Bm f : Nat} {Rc Rm : Nat → Nat → Prop} {pd pd' : List (Nat × List Nat × (Nat → Nat))} {n u a rc rc' : Nat} {T T1 : tyJ} {p : Nat}
/-- a call of the function itself -/
theorem own_self {kk x y : Nat} (hT : TJ K1 K2 Bc Bm f Rc Rm pd n u a rc T σ τ) (hp : p < 4101) (hf : f < 21) (h1 : rd σ 16 p = i32 3) (h2 : rd τ 151 p = i32 4) (h3 : rd σ 27 p = i32 (f : Int)) (h3' : rd τ 157 p = i32 (f : Int)) (h4 : rd σ 44 f = i32 (kk : Int)) (hkk : kk ≤ 5) (h5 : rd σ 68 f = i32 (x : Int)) (h5' : rd τ 180 f = i32 (y : Int)) (hz : T.2.2 x y) (c1 : cuN Bc x) (c2 : cuN Bm y) (d dm : Nat) : OWN L xs K1 K2 Bc Bm f Rc Rm pd pd n u a rc rc T p d dm σ τ (fun tc T' _ t => frM gro9 [63] τ t ∧ T' = T ∧ tc = x) := by
  have p148 : rn L xs (d + 4) 148 0 [.ref 65, .int (i32 (p : Int)), .int (i32 (kk : Int)), .int (i32 (f : Int)), jv] [] σ = some (.inl (some (.int (i32 (x : Int)))), σ) := by
    rw [e148_0, c_in (by omega) (by omega) (by omega), i32_ixn (by omega), h3, c2_ge (by omega) (by omega) (by omega) (by omega), c_t (by omega), e148_31, c_in (by omega) (by omega) (by omega), i32_ixn (by omega), h4, c2_ge (by omega) (by omega) (by omega) (by omega), c_t (by omega), e148_55, c_in (by omega) (by omega) (by omega), i32_ixn (by omega), h5, e148_62]
  refine ⟨x, y, σ, τ, T, ?_, fun w => ?_, hT, exT.refl, hz, c1, c2, frT.refl, frM.refl, rfl, rfl⟩
  · rw [own0_c (κ := 3) hp (by omega) h1 (d + 4), show t147 3 = 136 from rfl, e147_136 (d + 4), c_in (by omega) (by omega) (by omega), i32_ixn (by omega), h3, c_in (by omega) (by omega) (by omega), i32_ixn (by omega), h4, bI_ok p148]
  · rw [own0_m (κ := 4) (by omega) (by omega) h2 (dm + 6), show t334 4 = 88 from rfl, h3', e334_88, c2_ne (by omega) (by omega) (by omega) (by omega), c_f (by omega), c_in (by omega) (by omega) (by omega), i32_ixn (by omega), h5', e334_119]
/-- a call of a function before, once the model has copied it -/
theorem own_old {g kk n0 n1 x y : Nat} {t1 : tvS} (hp : p < 4101) (hf : f < 21) (hg : g < f) (h1 : rd σ 16 p = i32 3) (h2 : rd τ 151 p = i32 4) (h3 : rd σ 27 p = i32 (g : Int)) (h3' : rd τ 157 p = i32 (g : Int)) (h4 : rd σ 44 g = i32 (kk : Int)) (h4' : rd t1 140 g = i32 (kk : Int)) (hkk : kk ≤ 5) (h5 : rd σ 69 p = i32 (n0 : Int)) (h6 : rd σ 70 (n0 + kk) = i32 (x : Int)) (h7 : n0 + kk < ln σ 70) (h8 : ln σ 70 ≤ 32768)
    (dm : Nat) (hF : rn L xs (dm + 6) 335 0 [.ref 123, .int (i32 (p : Int)), jv, jv] [] τ = some (.inl (some (.int (i32 (n1 : Int)))), t1)) (hn1 : n1 + kk < 60000) (h9 : rd t1 182 (n1 + kk) = i32 (y : Int)) (hT : TJ K1 K2 Bc Bm f Rc Rm pd' n u a rc' T1 σ t1) (hx : exT Bc Bm T T1) (w : frM FMO FMF τ t1) (hz : T1.2.2 x y) (c1 : cuN Bc x) (c2 : cuN Bm y) (d : Nat) : OWN L xs K1 K2 Bc Bm f Rc Rm pd pd' n u a rc rc' T p d dm σ τ (fun tc T' s t => T' = T1 ∧ s = σ ∧ t = t1 ∧ tc = x) := by
  have p148 : rn L xs (d + 4) 148 0 [.ref 65, .int (i32 (p : Int)), .int (i32 (kk : Int)), .int (i32 (f : Int)), jv] [] σ = some (.inl (some (.int (i32 (x : Int)))), σ) := by
    rw [e148_0, c_in (by omega) (by omega) (by omega), i32_ixn (by omega), h3, c2_ge (by omega) (by omega) (by omega) (by omega), c_f (by omega), c_in (by omega) (by omega) (by omega), h5, i32_add, show (n0 : Int) + (kk : Int) = ((n0 + kk : Nat) : Int) from by omega, c_in (by omega) (by omega) (by omega), i32_ixn (by omega), h6]
  refine ⟨x, y, σ, t1, T1, ?_, fun v => ?_, hT, hx, hz, c1, c2, frT.refl, rfl, rfl, rfl, rfl⟩
  · rw [own0_c (κ := 3) hp (by omega) h1 (d + 4), show t147 3 = 136 from rfl, e147_136 (d + 4), c_in (by omega) (by omega) (by omega), i32_ixn (by omega), h3, c_in (by omega) (by omega) (by omega), i32_ixn (by omega), h4, bI_ok p148]
  · rw [own0_m (κ := 4) (by omega) (by omega) h2 (dm + 6), show t334 4 = 88 from rfl, h3', e334_88, c2_ne (by omega) (by omega) (by omega) (by omega), c_t (by omega), e334_102 (dm + 6), bI_ok hF, c_in (by omega) (by omega) (by omega), i32_ixn (by omega), h4', i32_add, show (n1 : Int) + (kk : Int) = ((n1 + kk : Nat) : Int) from by omega, c_in (by omega) (by omega) (by omega), i32_ixn (by omega), h9, e334_119]
/-- which of a call's parts one is -/
theorem order_c {q : Nat} {kids : List Nat} (hk : ∀ w c : Nat, kids[w]? = some c → c < 4101 ∧ rd σ 23 c = kid kids (w + 1)) (hnd : kids.Nodup) (d : Nat) : ∀ (j w0 w : Nat), w0 + j = w → kids[w]? = some p → rn L xs (d + 1) 152 20 [.ref 65, .int (i32 (p : Int)), .int (i32 (w0 : Int)), .int (kid kids w0)] [] σ = some (.inl (some (.int (i32 (w : Int)))), σ) := by
  intro j
  induction j with
  | zero =>
    intro w0 w e hw
    have e : w0 = w := by omega
    subst e
    have : kid kids w0 = i32 (p : Int) := by unfold kid; rw [hw]
    rw [e152_20, this, c2_refl, e152_41]
  | succ j ih =>
    intro w0 w e hw
    have hlt : w < kids.length := by
      rcases List.getElem?_eq_some_iff.mp hw with ⟨h, _⟩; exact h
    obtain ⟨c, hc⟩ : ∃ c, kids[w0]? = some c := ⟨_, List.getElem?_eq_getElem (by omega)⟩
    have ec : kid kids w0 = i32 (c : Int) := by unfold kid; rw [hc]
    obtain ⟨c1, c2⟩ := hk w0 c hc
    obtain ⟨p1, _⟩ := hk w p hw
    have hne : c ≠ p := by
      intro k
      subst k
      have := nodup_at _ _ _ _ hnd hc hw
      omega
    have e1 : i32 (w0 : Int) + 1 = i32 ((w0 + 1 : Nat) : Int) := by rw [show (1 : Int32) = i32 1 from rfl, i32_add]; rfl
    rw [e152_20, ec, c2_eq (by omega) (by omega) (by omega) (by omega), c_f (by omega), c_in (by omega) (by omega) (by omega), i32_ixn (by omega), c2, e1]
    exact ih (w0 + 1) w (by omega) hw
theorem order_m {q g : Nat} {kids : List Nat} (hq : q < 6000) (h1 : rd τ 162 q = i32 (g : Int)) (hg : g + kids.length ≤ 6000) (hk : ∀ w c : Nat, kids[w]? = some c → c < 4101 ∧ rd τ 164 (g + w) = i32 (c : Int)) (hnd : kids.Nodup) (d : Nat) (x1 : Int32) (v5 : Value) : ∀ (j w0 w : Nat), w0 + j = w → kids[w]? = some p → rn L xs (d + 1) 347 3 [.ref 123, .int x1, .int (i32 (q : Int)), .int (i32 (p : Int)), .int (i32 (w0 : Int)), v5] [] τ = rn L xs (d + 1) 347 27 [.ref 123, .int x1, .int (i32 (q : Int)), .int (i32 (p : Int)), .int (i32 (w : Int)), v5] [] τ := by
  intro j
  induction j with
  | zero =>
    intro w0 w e hw
    have e : w0 = w := by omega
    subst e
    have hlt : w0 < kids.length := by
      rcases List.getElem?_eq_some_iff.mp hw with ⟨h, _⟩; exact h
    rw [e347_3, c_in (by omega) (by omega) (by omega), i32_ixn (by omega), h1, i32_add, show (g : Int) + (w0 : Int) = ((g + w0 : Nat) : Int) from by omega, c_in (by omega) (by omega) (by omega), i32_ixn (by omega), (hk w0 p hw).2, c2_refl]
  | succ j ih =>
    intro w0 w e hw
    have hlt : w < kids.length := by
      rcases List.getElem?_eq_some_iff.mp hw with ⟨h, _⟩; exact h
    obtain ⟨c, hc⟩ : ∃ c, kids[w0]? = some c := ⟨_, List.getElem?_eq_getElem (by omega)⟩
    obtain ⟨c1, c2⟩ := hk w0 c hc
    obtain ⟨p1, _⟩ := hk w p hw
    have hne : c ≠ p := by
      intro k
      subst k
      have := nodup_at _ _ _ _ hnd hc hw
      omega
    have e1 : i32 (w0 : Int) + 1 = i32 ((w0 + 1 : Nat) : Int) := by rw [show (1 : Int32) = i32 1 from rfl, i32_add]; rfl
    rw [e347_3, c_in (by omega) (by omega) (by omega), i32_ixn (by omega), h1, i32_add, show (g : Int) + (w0 : Int) = ((g + w0 : Nat) : Int) from by omega, c_in (by omega) (by omega) (by omega), i32_ixn (by omega), c2, c2_eq (by omega) (by omega) (by omega) (by omega), c_f (by omega), e1]
    exact ih (w0 + 1) w (by omega) hw
end CALLT
