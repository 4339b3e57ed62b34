/-! VALUES AND THEIR TYPES: values, objects -/
/-- kind (0 a number, 1 nil, 2 an object), word -/
abbrev vaL : Type := Nat × Int32
/-- kind (1 a pair, 2 a cell, 3 a closure), part; region, its serial number; what is in it; what it keeps -/
abbrev obD : Type := (Nat × Nat) × (Nat × Nat) × List vaL × List (Nat × Nat)
def obD.kd (x : obD) : Nat := x.1.1
def obD.pt (x : obD) : Nat := x.1.2
def obD.gi (x : obD) : Nat := x.2.1.1
def obD.se (x : obD) : Nat := x.2.1.2
def obD.co (x : obD) : List vaL := x.2.2.1
def obD.kp (x : obD) : List (Nat × Nat) := x.2.2.2
/-- the graph; types of parts, of variables, of numbers -/
abbrev tsD : Type := tgD × (Nat → Nat) × (Nat → Nat) × (Nat → Nat → Nat)
def tsD.g (T : tsD) : tgD := T.1
def tsD.oC (T : tsD) : Nat → Nat := T.2.1
def tsD.vC (T : tsD) : Nat → Nat := T.2.2.1
def tsD.kC (T : tsD) : Nat → Nat → Nat := T.2.2.2
/-- a closure is of a type -/
def CLO (D : pgD) (rg : rgD) (cd : cdD) (T : tsD) (B : Nat) (V : vaL → trE → Prop) (x : obD) (t : trE) : Prop :=
  t.k = 4 ∧ ∃ (f k0 : Nat) (E : Nat → trE), (f ≤ D.fc ∧ D.bP f ≤ x.pt ∧ x.pt < D.bP (f + 1) ∧ D.K x.pt = 17 ∧ D.kd x.pt = [k0]) ∧ CONS T.g E ∧ (∀ c z, RGS (E c) z → z < B) ∧ (t.sub false = E (T.vC (D.gv (D.vl x.pt))) ∧ t.sub true = E (T.oC k0)) ∧
    (x.co.length = (cd.cg (D.vl x.pt)).length ∧ ∀ i v, x.co[i]? = some v → V v (E (T.vC ((cd.cg (D.vl x.pt)).getD i 0))) ∧ ∀ z, RGS (E (T.vC ((cd.cg (D.vl x.pt)).getD i 0))) z → t.h z) ∧
    (x.kp.length = (rg.kp (D.vl x.pt)).length ∧ ∀ i r s, x.kp[i]? = some (r, s) → s = (E (T.kC f ((rg.kp (D.vl x.pt)).getD i 0))).s ∧ t.h s)
/-- an object is of a type -/
def OBT (D : pgD) (rg : rgD) (cd : cdD) (T : tsD) (B : Nat) (V : vaL → trE → Prop) (x : obD) (t : trE) : Prop :=
  x.se = t.s ∧ ((x.kd = 1 ∧ t.k = 2 ∧ ∃ a b, x.co = [a, b] ∧ x.kp = [] ∧ V a (t.sub false) ∧ V b (t.sub true)) ∨ (x.kd = 2 ∧ t.k = 3 ∧ ∃ a b, x.co = [a, b] ∧ x.kp = [] ∧ V a (t.sub false) ∧ V b t) ∨ (x.kd = 3 ∧ CLO D rg cd T B V x t))
def VTn (D : pgD) (rg : rgD) (cd : cdD) (T : tsD) (hp : Nat → obD) (no B : Nat) : Nat → vaL → trE → Prop
  | 0, _, _ => False
  | n + 1, v, t => (v.1 = 0 ∧ t.k = 1) ∨ (v = (1, 0) ∧ t.k = 3) ∨ ∃ o : Nat, v = (2, i32 (o : Int)) ∧ 1 ≤ o ∧ o ≤ no ∧ OBT D rg cd T B (VTn D rg cd T hp no B n) (hp o) t
/-- a value is of a type -/
def VTy (D : pgD) (rg : rgD) (cd : cdD) (T : tsD) (hp : Nat → obD) (no B : Nat) (v : vaL) (t : trE) : Prop := ∃ n, VTn D rg cd T hp no B n v t
section VALUES
variable {D : pgD} {rg : rgD} {cd : cdD} {T : tsD} {hp hp' : Nat → obD} {no no' B B' n n' : Nat} {v : vaL} {t : trE}
theorem OBT.mono {V V' : vaL → trE → Prop} {x : obD} (h : OBT D rg cd T B V x t) (hV : ∀ w u, V w u → V' w u) (hB : B ≤ B') : OBT D rg cd T B' V' x t := by
  obtain ⟨h0, h⟩ := h
  refine ⟨h0, ?_⟩
  rcases h with ⟨k, q, a, b, e, e', h1, h2⟩ | ⟨k, q, a, b, e, e', h1, h2⟩ | ⟨k, q, f, k0, E, h1, h2, h3, h4, ⟨h5, h6⟩, h7⟩
  · exact .inl ⟨k, q, a, b, e, e', hV _ _ h1, hV _ _ h2⟩
  · exact .inr (.inl ⟨k, q, a, b, e, e', hV _ _ h1, hV _ _ h2⟩)
  · exact .inr (.inr ⟨k, q, f, k0, E, h1, h2, fun c z hz => Nat.lt_of_lt_of_le (h3 c z hz) hB, h4, ⟨h5, fun i w hw => ⟨hV _ _ (h6 i w hw).1, (h6 i w hw).2⟩⟩, h7⟩)
theorem VTn.mono (hh : ∀ o, 1 ≤ o → o ≤ no → hp' o = hp o) (hno : no ≤ no') (hB : B ≤ B') : ∀ (n n' : Nat) (v : vaL) (t : trE), n ≤ n' → VTn D rg cd T hp no B n v t → VTn D rg cd T hp' no' B' n' v t := by
  intro n
  induction n with
  | zero => intro n' v t _ h; exact h.elim
  | succ n ih =>
    intro n' v t hn h
    cases n' with
    | zero => omega
    | succ n' =>
      rcases h with h | h | ⟨o, e, o1, o2, h⟩
      · exact .inl h
      · exact .inr (.inl h)
      · refine .inr (.inr ⟨o, e, o1, by omega, ?_⟩)
        rw [hh o o1 o2]
        exact h.mono (fun w u => ih n' w u (by omega)) hB
theorem VTy.mono (h : VTy D rg cd T hp no B v t) (hh : ∀ o, 1 ≤ o → o ≤ no → hp' o = hp o) (hno : no ≤ no') (hB : B ≤ B') : VTy D rg cd T hp' no' B' v t := by
  obtain ⟨n, h⟩ := h
  exact ⟨n, VTn.mono hh hno hB n n v t (Nat.le_refl _) h⟩
/-- some depth for all -/
theorem VTy.many : ∀ (l : List vaL) (F : Nat → trE), (∀ i w, l[i]? = some w → VTy D rg cd T hp no B w (F i)) → ∃ n, ∀ i w, l[i]? = some w → VTn D rg cd T hp no B n w (F i) := by
  intro l
  induction l with
  | nil => intro F _; exact ⟨0, fun i w h => by simp at h⟩
  | cons a r ih =>
    intro F h
    obtain ⟨n1, h1⟩ := h 0 a rfl
    obtain ⟨n2, h2⟩ := ih (fun i => F (i + 1)) (fun i w hw => h (i + 1) w hw)
    refine ⟨n1 + n2, fun i w hw => ?_⟩
    cases i with
    | zero =>
      have e : a = w := by simpa using hw
      subst e
      exact VTn.mono (fun _ _ _ => rfl) (Nat.le_refl _) (Nat.le_refl _) n1 _ _ _ (by omega) h1
    | succ i => exact VTn.mono (fun _ _ _ => rfl) (Nat.le_refl _) (Nat.le_refl _) n2 _ _ _ (by omega) (h2 i w hw)
theorem VTy.num {x : Int32} (h : t.k = 1) : VTy D rg cd T hp no B (0, x) t := ⟨1, .inl ⟨rfl, h⟩⟩
theorem VTy.nil (h : t.k = 3) : VTy D rg cd T hp no B (1, 0) t := ⟨1, .inr (.inl ⟨rfl, h⟩)⟩
theorem VTy.pair {o : Nat} {a b : vaL} (o1 : 1 ≤ o) (o2 : o ≤ no) (hs : (hp o).se = t.s) (hk : (hp o).kd = 1) (hc : (hp o).co = [a, b]) (hkp : (hp o).kp = []) (ht : t.k = 2) (ha : VTy D rg cd T hp no B a (t.sub false)) (hb : VTy D rg cd T hp no B b (t.sub true)) : VTy D rg cd T hp no B (2, i32 (o : Int)) t := by
  obtain ⟨n1, ha⟩ := ha
  obtain ⟨n2, hb⟩ := hb
  exact ⟨n1 + n2 + 1, .inr (.inr ⟨o, rfl, o1, o2, hs, .inl ⟨hk, ht, a, b, hc, hkp, VTn.mono (fun _ _ _ => rfl) (Nat.le_refl _) (Nat.le_refl _) n1 _ _ _ (by omega) ha, VTn.mono (fun _ _ _ => rfl) (Nat.le_refl _) (Nat.le_refl _) n2 _ _ _ (by omega) hb⟩⟩)⟩
theorem VTy.cell {o : Nat} {a b : vaL} (o1 : 1 ≤ o) (o2 : o ≤ no) (hs : (hp o).se = t.s) (hk : (hp o).kd = 2) (hc : (hp o).co = [a, b]) (hkp : (hp o).kp = []) (ht : t.k = 3) (ha : VTy D rg cd T hp no B a (t.sub false)) (hb : VTy D rg cd T hp no B b t) : VTy D rg cd T hp no B (2, i32 (o : Int)) t := by
  obtain ⟨n1, ha⟩ := ha
  obtain ⟨n2, hb⟩ := hb
  exact ⟨n1 + n2 + 1, .inr (.inr ⟨o, rfl, o1, o2, hs, .inr (.inl ⟨hk, ht, a, b, hc, hkp, VTn.mono (fun _ _ _ => rfl) (Nat.le_refl _) (Nat.le_refl _) n1 _ _ _ (by omega) ha, VTn.mono (fun _ _ _ => rfl) (Nat.le_refl _) (Nat.le_refl _) n2 _ _ _ (by omega) hb⟩)⟩)⟩
theorem VTy.clo {o : Nat} (o1 : 1 ≤ o) (o2 : o ≤ no) (hs : (hp o).se = t.s) (hk : (hp o).kd = 3) (h : CLO D rg cd T B (VTy D rg cd T hp no B) (hp o) t) : VTy D rg cd T hp no B (2, i32 (o : Int)) t := by
  obtain ⟨q, f, k0, E, h1, h2, h3, h4, ⟨h5, h6⟩, h7⟩ := h
  obtain ⟨n, hn⟩ := VTy.many (hp o).co (fun i => E (T.vC ((cd.cg (D.vl (hp o).pt)).getD i 0))) (fun i w hw => (h6 i w hw).1)
  exact ⟨n + 1, .inr (.inr ⟨o, rfl, o1, o2, hs, .inr (.inr ⟨hk, q, f, k0, E, h1, h2, h3, h4, ⟨h5, fun i w hw => ⟨hn i w hw, (h6 i w hw).2⟩⟩, h7⟩)⟩)⟩
theorem VTy.is_num (h : VTy D rg cd T hp no B v t) (ht : t.k = 1) : v.1 = 0 := by
  obtain ⟨n, h⟩ := h
  cases n with
  | zero => exact h.elim
  | succ n =>
    rcases h with h | h | ⟨o, e, o1, o2, h0, h⟩
    · exact h.1
    · omega
    · rcases h with ⟨_, q, _⟩ | ⟨_, q, _⟩ | ⟨_, q, _⟩ <;> omega
theorem VTy.is_pair (h : VTy D rg cd T hp no B v t) (ht : t.k = 2) : ∃ (o : Nat) (a b : vaL), v = (2, i32 (o : Int)) ∧ 1 ≤ o ∧ o ≤ no ∧ (hp o).kd = 1 ∧ (hp o).se = t.s ∧ (hp o).co = [a, b] ∧ (hp o).kp = [] ∧ VTy D rg cd T hp no B a (t.sub false) ∧ VTy D rg cd T hp no B b (t.sub true) := by
  obtain ⟨n, h⟩ := h
  cases n with
  | zero => exact h.elim
  | succ n =>
    rcases h with h | h | ⟨o, e, o1, o2, h0, h⟩
    · omega
    · omega
    · rcases h with ⟨k, q, a, b, e', e2, ha, hb⟩ | ⟨_, q, _⟩ | ⟨_, q, _⟩
      · exact ⟨o, a, b, e, o1, o2, k, h0, e', e2, ⟨n, ha⟩, ⟨n, hb⟩⟩
      · omega
      · omega
theorem VTy.is_list (h : VTy D rg cd T hp no B v t) (ht : t.k = 3) : v = (1, 0) ∨ ∃ (o : Nat) (a b : vaL), v = (2, i32 (o : Int)) ∧ 1 ≤ o ∧ o ≤ no ∧ (hp o).kd = 2 ∧ (hp o).se = t.s ∧ (hp o).co = [a, b] ∧ (hp o).kp = [] ∧ VTy D rg cd T hp no B a (t.sub false) ∧ VTy D rg cd T hp no B b t := by
  obtain ⟨n, h⟩ := h
  cases n with
  | zero => exact h.elim
  | succ n =>
    rcases h with h | h | ⟨o, e, o1, o2, h0, h⟩
    · omega
    · exact .inl h.1
    · rcases h with ⟨_, q, _⟩ | ⟨k, q, a, b, e', e2, ha, hb⟩ | ⟨_, q, _⟩
      · omega
      · exact .inr ⟨o, a, b, e, o1, o2, k, h0, e', e2, ⟨n, ha⟩, ⟨n, hb⟩⟩
      · omega
theorem VTy.is_clo (h : VTy D rg cd T hp no B v t) (ht : t.k = 4) : ∃ o : Nat, v = (2, i32 (o : Int)) ∧ 1 ≤ o ∧ o ≤ no ∧ (hp o).kd = 3 ∧ (hp o).se = t.s ∧ CLO D rg cd T B (VTy D rg cd T hp no B) (hp o) t := by
  obtain ⟨n, h⟩ := h
  cases n with
  | zero => exact h.elim
  | succ n =>
    rcases h with h | h | ⟨o, e, o1, o2, h0, h⟩
    · omega
    · omega
    · rcases h with ⟨_, q, _⟩ | ⟨_, q, _⟩ | ⟨k, q, f, k0, E, h1, h2, h3, h4, ⟨h5, h6⟩, h7⟩
      · omega
      · omega
      · exact ⟨o, e, o1, o2, k, h0, q, f, k0, E, h1, h2, h3, h4, ⟨h5, fun i w hw => ⟨⟨n, (h6 i w hw).1⟩, (h6 i w hw).2⟩⟩, h7⟩
/-- objects that a value leads to -/
def ROn (hp : Nat → obD) (no : Nat) : Nat → vaL → Nat → Prop
  | 0, v, o => v = (2, i32 (o : Int)) ∧ 1 ≤ o ∧ o ≤ no
  | n + 1, v, o => ∃ (o' : Nat) (w : vaL), v = (2, i32 (o' : Int)) ∧ 1 ≤ o' ∧ o' ≤ no ∧ w ∈ (hp o').co ∧ ROn hp no n w o
def ROb (hp : Nat → obD) (no : Nat) (v : vaL) (o : Nat) : Prop := ∃ n, ROn hp no n v o
theorem ROb.lt {o : Nat} (h : ROb hp no v o) : 1 ≤ o ∧ o ≤ no := by
  obtain ⟨n, h⟩ := h
  induction n generalizing v with
  | zero => exact h.2
  | succ n ih =>
    obtain ⟨_, w, _, _, _, _, k⟩ := h
    exact ih k
/-- what is reached lies in regions of the type -/
theorem VTn.rgs (hno : no ≤ 30001) : ∀ (m n : Nat) (v : vaL) (t : trE) (o : Nat), VTn D rg cd T hp no B n v t → ROn hp no m v o → RGS t (hp o).se ∧ ∀ r s, (r, s) ∈ (hp o).kp → RGS t s := by
  intro m
  induction m with
  | zero =>
    intro n v t o h hr
    obtain ⟨e, o1, o2⟩ := hr
    cases n with
    | zero => exact h.elim
    | succ n =>
      rcases h with h | h | ⟨o', e', p1, p2, h0, h⟩
      · rw [e] at h; exact absurd (show (2 : Nat) = 0 from h.1) (by decide)
      · rw [e] at h; exact absurd (show (2 : Nat) = 1 from congrArg Prod.fst h.1) (by decide)
      · have eo : o = o' := by
          rw [e] at e'
          have := (i32_inj (by omega) (by omega) (by omega) (by omega)).mp (congrArg Prod.snd e')
          omega
        subst eo
        have hk : 2 ≤ t.k := by rcases h with ⟨_, q, _⟩ | ⟨_, q, _⟩ | ⟨_, q, _⟩ <;> omega
        refine ⟨by rw [h0]; exact RGS_s hk, fun r s hrs => ?_⟩
        rcases h with ⟨_, _, a, b, _, e2, _⟩ | ⟨_, _, a, b, _, e2, _⟩ | ⟨_, q, f, k0, E, _, _, _, _, _, _, h7⟩
        · rw [e2] at hrs; cases hrs
        · rw [e2] at hrs; cases hrs
        · obtain ⟨i, hi⟩ := List.mem_iff_getElem?.mp hrs
          exact RGS_h q (h7 i r s hi).2
  | succ m ih =>
    intro n v t o h hr
    obtain ⟨o1, w, e, p1, p2, hw, hr⟩ := hr
    cases n with
    | zero => exact h.elim
    | succ n =>
      rcases h with h | h | ⟨o', e', p1', p2', h0, h⟩
      · rw [e] at h; exact absurd (show (2 : Nat) = 0 from h.1) (by decide)
      · rw [e] at h; exact absurd (show (2 : Nat) = 1 from congrArg Prod.fst h.1) (by decide)
      · have eo : o1 = o' := by
          rw [e] at e'
          have := (i32_inj (by omega) (by omega) (by omega) (by omega)).mp (congrArg Prod.snd e')
          omega
        subst eo
        rcases h with ⟨_, q, a, b, e1, e2, ha, hb⟩ | ⟨_, q, a, b, e1, e2, ha, hb⟩ | ⟨_, q, f, k0, E, _, _, _, _, ⟨_, h6⟩, h7⟩
        · rw [e1] at hw
          rcases List.mem_cons.mp hw with ew | ew
          · subst ew
            have := ih n _ _ o ha hr
            exact ⟨RGS_sub this.1, fun r s hrs => RGS_sub (this.2 r s hrs)⟩
          · have ew := List.mem_singleton.mp ew
            subst ew
            have := ih n _ _ o hb hr
            exact ⟨RGS_sub this.1, fun r s hrs => RGS_sub (this.2 r s hrs)⟩
        · rw [e1] at hw
          rcases List.mem_cons.mp hw with ew | ew
          · subst ew
            have := ih n _ _ o ha hr
            exact ⟨RGS_sub this.1, fun r s hrs => RGS_sub (this.2 r s hrs)⟩
          · have ew := List.mem_singleton.mp ew
            subst ew
            exact ih n _ _ o hb hr
        · obtain ⟨i, hi⟩ := List.mem_iff_getElem?.mp hw
          obtain ⟨g1, g2⟩ := h6 i w hi
          have := ih n _ _ o g1 hr
          exact ⟨RGS_h q (g2 _ this.1), fun r s hrs => RGS_h q (g2 _ (this.2 r s hrs))⟩
theorem VTy.rgs {o : Nat} (hno : no ≤ 30001) (h : VTy D rg cd T hp no B v t) (hr : ROb hp no v o) : RGS t (hp o).se ∧ ∀ r s, (r, s) ∈ (hp o).kp → RGS t s := by
  obtain ⟨n, h⟩ := h
  obtain ⟨m, hr⟩ := hr
  exact VTn.rgs hno m n v t o h hr
/-- all that is reached lies in regions that are there -/
def VOK (no : Nat) (v : vaL) : Prop := v.1 = 2 → ∃ o : Nat, v.2 = i32 (o : Int) ∧ 1 ≤ o ∧ o ≤ no
def LVv (hp : Nat → obD) (no : Nat) (ser : Nat → Nat) (nr : Nat) (v : vaL) : Prop := VOK no v ∧ ∀ o, ROb hp no v o → ((hp o).gi < nr ∧ ser (hp o).gi = (hp o).se) ∧ ∀ r s, (r, s) ∈ (hp o).kp → r < nr ∧ ser r = s
theorem LVv.num {ser : Nat → Nat} {nr : Nat} (h : v.1 ≠ 2) : LVv hp no ser nr v := ⟨fun e => absurd e h, fun o ⟨n, hr⟩ => by
  cases n with
  | zero => exact absurd (by rw [hr.1]) h
  | succ n =>
    obtain ⟨_, _, e, _⟩ := hr
    exact absurd (by rw [e]) h⟩
/-- at the end of a part: its regions go, the value leads to none of them -/
theorem LVv.leave {ser : Nat → Nat} {nr nr' : Nat} (hno : no ≤ 30001) (hn : nr' ≤ nr) (h : LVv hp no ser nr v) (ht : VTy D rg cd T hp no B v t) (hg : ∀ z, RGS t z → ∀ r, nr' ≤ r → r < nr → ser r ≠ z) : LVv hp no ser nr' v := ⟨h.1, fun o hr => by
  obtain ⟨⟨h1, h2⟩, h3⟩ := h.2 o hr
  obtain ⟨g1, g2⟩ := ht.rgs hno hr
  refine ⟨⟨?_, h2⟩, fun r s hrs => ⟨?_, (h3 r s hrs).2⟩⟩
  · by_cases q : (hp o).gi < nr'
    · exact q
    · exact absurd h2 (hg _ g1 _ (by omega) h1)
  · by_cases q : r < nr'
    · exact q
    · exact absurd (h3 r s hrs).2 (hg _ (g2 r s hrs) _ (by omega) (h3 r s hrs).1)⟩
/-- objects lead to older ones -/
def HOK (hp : Nat → obD) (no : Nat) : Prop := ∀ o, 1 ≤ o → o ≤ no → ∀ w, w ∈ (hp o).co → VOK (o - 1) w
theorem VOK.mono (h : VOK no v) (hn : no ≤ no') : VOK no' v := fun e => by
  obtain ⟨o, a, b, c⟩ := h e
  exact ⟨o, a, b, by omega⟩
theorem ROb.back {o : Nat} (hno' : no' ≤ 30001) (hH : HOK hp no) (hv : VOK no v) (hn : no ≤ no') (hh : ∀ o, 1 ≤ o → o ≤ no → hp' o = hp o) (h : ROb hp' no' v o) : ROb hp no v o := by
  obtain ⟨m, h⟩ := h
  induction m generalizing v with
  | zero =>
    obtain ⟨e, o1, o2⟩ := h
    obtain ⟨o', e', p1, p2⟩ := hv (by rw [e])
    rw [e] at e'
    have := (i32_inj (by omega) (by omega) (by omega) (by omega)).mp e'
    exact ⟨0, e, o1, by omega⟩
  | succ m ih =>
    obtain ⟨o1, w, e, p1, p2, hw, hr⟩ := h
    obtain ⟨o', e', q1, q2⟩ := hv (by rw [e])
    rw [e] at e'
    have := (i32_inj (by omega) (by omega) (by omega) (by omega)).mp e'
    have eo : o1 = o' := by omega
    subst eo
    rw [hh o1 q1 q2] at hw
    obtain ⟨m', k⟩ := ih ((hH o1 q1 q2 w hw).mono (by omega)) hr
    exact ⟨m' + 1, o1, w, e, q1, q2, hw, k⟩
theorem LVv.mono {ser ser' : Nat → Nat} {nr nr' : Nat} (hno' : no' ≤ 30001) (hH : HOK hp no) (h : LVv hp no ser nr v) (hn : no ≤ no') (hh : ∀ o, 1 ≤ o → o ≤ no → hp' o = hp o) (hr : nr ≤ nr') (hs : ∀ r, r < nr → ser' r = ser r) : LVv hp' no' ser' nr' v := ⟨h.1.mono hn, fun o ho => by
  have ho' := ROb.back hno' hH h.1 hn hh ho
  obtain ⟨b1, b2⟩ := ho'.lt
  obtain ⟨⟨h1, h2⟩, h3⟩ := h.2 o ho'
  rw [hh o b1 b2]
  refine ⟨⟨by omega, by rw [hs _ h1]; exact h2⟩, fun r s hrs => ?_⟩
  obtain ⟨g1, g2⟩ := h3 r s hrs
  exact ⟨by omega, by rw [hs r g1]; exact g2⟩⟩
end VALUES
