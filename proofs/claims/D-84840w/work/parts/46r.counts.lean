/-! REGIONS, BOTH: counts are equal -/
section COUNTS
theorem cnt_le {A B : List Nat} {Z : Nat → Nat → Prop} (hA : A.Nodup) (h : ∀ t, t ∈ A → ∃ y, y ∈ B ∧ Z t y) (inj : ∀ t t' y, t ∈ A → t' ∈ A → Z t y → Z t' y → t = t') : A.length ≤ B.length := by
  have ch : ∀ t, ∃ y, t ∈ A → y ∈ B ∧ Z t y := fun t => by
    by_cases ht : t ∈ A
    · obtain ⟨y, hy⟩ := h t ht; exact ⟨y, fun _ => hy⟩
    · exact ⟨0, fun k => absurd k ht⟩
  obtain ⟨g, hg⟩ := Classical.skolem.mp ch
  have hnd : (A.map g).Nodup := by
    rw [List.nodup_iff_pairwise_ne, List.pairwise_map]
    refine List.Pairwise.imp_of_mem (fun {a b} ha hb hne e => hne ?_) hA
    have h1 := (hg a ha).2
    rw [e] at h1
    exact inj a b (g b) ha hb h1 (hg b hb).2
  have := nodup_len (A.map g) B hnd (fun y hy => by
    obtain ⟨t, t1, t2⟩ := List.mem_map.mp hy
    rw [← t2]; exact (hg t t1).1)
  rw [List.length_map] at this
  exact this
theorem cnt_leP {A B : List (Nat × Nat)} {Z : Nat × Nat → Nat × Nat → Prop} (hA : A.Nodup) (h : ∀ t, t ∈ A → ∃ y, y ∈ B ∧ Z t y) (inj : ∀ t t' y, t ∈ A → t' ∈ A → Z t y → Z t' y → t = t') : A.length ≤ B.length := by
  have ch : ∀ t, ∃ y, t ∈ A → y ∈ B ∧ Z t y := fun t => by
    by_cases ht : t ∈ A
    · obtain ⟨y, hy⟩ := h t ht; exact ⟨y, fun _ => hy⟩
    · exact ⟨(0, 0), fun k => absurd k ht⟩
  obtain ⟨g, hg⟩ := Classical.skolem.mp ch
  have hnd : (A.map g).Nodup := by
    rw [List.nodup_iff_pairwise_ne, List.pairwise_map]
    refine List.Pairwise.imp_of_mem (fun {a b} ha hb hne e => hne ?_) hA
    have h1 := (hg a ha).2
    rw [e] at h1
    exact inj a b (g b) ha hb h1 (hg b hb).2
  have := nodup_lenP (A.map g) B hnd (fun y hy => by
    obtain ⟨t, t1, t2⟩ := List.mem_map.mp hy
    rw [← t2]; exact (hg t t1).1)
  rw [List.length_map] at this
  exact this
/-- a measured signature: roots that are reached, pairs of arrows and what they hold -/
def MSR (G : tG) (r : Nat → Nat) (h : Nat → Nat → Prop) (B : Nat → Prop) (A U : Nat) (Hh : Nat) : Prop :=
  (∃ l : List Nat, l.Nodup ∧ l.length = A ∧ ∀ t, t ∈ l ↔ r t = t ∧ 2 ≤ G.1 t ∧ RQ G r h B t) ∧ (∃ l : List Nat, l.Nodup ∧ l.length = U ∧ ∀ t, t ∈ l ↔ r t = t ∧ G.1 t = 0 ∧ RQ G r h B t) ∧
  ∃ l : List (Nat × Nat), l.Nodup ∧ l.length = Hh ∧ ∀ e, e ∈ l ↔ r e.1 = e.1 ∧ RQ G r h B e.1 ∧ ∃ v, h e.1 v ∧ r v = e.2 ∧ G.1 e.2 ≠ 1
theorem MSR.le {C M : tG} {c r : Nat → Nat} {Z : Nat → Nat → Prop} {h h' : Nat → Nat → Prop} {B B' : Nat → Prop} {A U Hh A' U' Hh' : Nat} (z : zG C c M r Z) (hc : ∀ x, c (c x) = c x) (hr : ∀ x, r (r x) = r x) (zh : ∀ x y u, Z x y → h (c x) u → C.1 (c u) ≠ 1 → ∃ v, h' (r y) v ∧ Z u v) (kh : ∀ x u, h (c x) u → C.1 (c x) ≠ 1) (kb : ∀ b, B b → ∃ b', B' b' ∧ Z b b') (a : MSR C c h B A U Hh) (b : MSR M r h' B' A' U' Hh') : A ≤ A' ∧ U ≤ U' ∧ Hh ≤ Hh' := by
  obtain ⟨⟨l1, n1, e1, m1⟩, ⟨l2, n2, e2, m2⟩, l3, n3, e3, m3⟩ := a
  obtain ⟨⟨k1, o1, f1, p1⟩, ⟨k2, o2, f2, p2⟩, k3, o3, f3, p3⟩ := b
  obtain ⟨z1, z2, z3, z4⟩ := id z
  have mate : ∀ t, c t = t → C.1 t ≠ 1 → RQ C c h B t → ∃ y, r y = y ∧ Z t y ∧ RQ M r h' B' y := fun t ht hk hq => by
    rcases RQ.zz (h' := h') (B' := B') z hc zh kh kb hq with e | ⟨y, y1, y2⟩
    · rw [ht] at e; exact absurd e hk
    · exact ⟨r y, hr y, z2 t y t (r y) y1 rfl (hr y), y2.cl (hr y).symm⟩
  have inj : ∀ t t' y, c t = t → c t' = t' → Z t y → Z t' y → t = t' := fun t t' y h1 h2 k1 k2 => by
    have := (z1 _ _ _ _ k1 k2).mpr rfl
    rw [h1, h2] at this; exact this
  refine ⟨?_, ?_, ?_⟩
  · rw [← e1, ← f1]
    refine cnt_le (Z := Z) n1 (fun t ht => ?_) (fun t t' y h1 h2 k1 k2 => inj t t' y ((m1 t).mp h1).1 ((m1 t').mp h2).1 k1 k2)
    obtain ⟨t1, t2, t3⟩ := (m1 t).mp ht
    obtain ⟨y, y1, y2, y3⟩ := mate t t1 (by omega) t3
    have := z3 _ _ y2
    rw [t1, y1] at this
    exact ⟨y, (p1 y).mpr ⟨y1, by omega, y3⟩, y2⟩
  · rw [← e2, ← f2]
    refine cnt_le (Z := Z) n2 (fun t ht => ?_) (fun t t' y h1 h2 k1 k2 => inj t t' y ((m2 t).mp h1).1 ((m2 t').mp h2).1 k1 k2)
    obtain ⟨t1, t2, t3⟩ := (m2 t).mp ht
    obtain ⟨y, y1, y2, y3⟩ := mate t t1 (by omega) t3
    have := z3 _ _ y2
    rw [t1, y1] at this
    exact ⟨y, (p2 y).mpr ⟨y1, by omega, y3⟩, y2⟩
  · rw [← e3, ← f3]
    refine cnt_leP (Z := fun e e' => Z e.1 e'.1 ∧ Z e.2 e'.2) n3 (fun e he => ?_) (fun e e' y h1 h2 k1 k2 => ?_)
    · obtain ⟨t1, t2, v, v1, v2, v3⟩ := (m3 e).mp he
      have hk : C.1 e.1 ≠ 1 := by
        have := kh e.1 v (by rw [t1]; exact v1)
        rw [t1] at this; exact this
      obtain ⟨y, y1, y2, y3⟩ := mate e.1 t1 hk t2
      obtain ⟨v', w1, w2⟩ := zh e.1 y v y2 (by rw [t1]; exact v1) (by rw [v2]; exact v3)
      rw [y1] at w1
      have zv : Z e.2 (r v') := z2 v v' e.2 (r v') w2 (by rw [← v2, hc]) (hr v')
      have kv := z3 _ _ zv
      rw [hr, show c e.2 = e.2 by rw [← v2, hc]] at kv
      exact ⟨(y, r v'), (p3 _).mpr ⟨y1, y3, v', w1, rfl, by show M.1 (r v') ≠ 1; rw [← kv]; exact v3⟩, y2, zv⟩
    · obtain ⟨t1, _, v, v1, v2, _⟩ := (m3 e).mp h1
      obtain ⟨t1', _, v', v1', v2', _⟩ := (m3 e').mp h2
      have a1 := inj e.1 e'.1 y.1 t1 t1' k1.1 k2.1
      have a2 := inj e.2 e'.2 y.2 (by rw [← v2, hc]) (by rw [← v2', hc]) k1.2 k2.2
      exact Prod.ext a1 a2
/-- from the component's measure -/
theorem MSR.c {C : tG} {c : Nat → Nat} {h : Nat → Nat → Prop} {B : Nat → Prop} {ML : List Nat} {PL : List (Nat × Nat)} (hk : ∀ t v, c t = t → h t v → C.1 t = 4) (h1 : ML.Nodup) (h2 : ∀ t, t ∈ ML ↔ c t = t ∧ C.1 t ≠ 1 ∧ RQ C c h B t) (h3 : PL.Nodup) (h4 : ∀ e, e ∈ PL ↔ e.1 ∈ ML ∧ ∃ v, h e.1 v ∧ c v = e.2 ∧ C.1 e.2 ≠ 1) : MSR C c h B (ML.length - unk C ML) (unk C ML) PL.length := by
  have hsum : ∀ (l : List Nat), (∀ t, t ∈ l → C.1 t ≠ 1) → (l.filter (fun t => decide (2 ≤ C.1 t))).length + unk C l = l.length := by
    intro l
    induction l with
    | nil => intro _; rfl
    | cons t l ih =>
      intro hl
      have hh := ih (fun t ht => hl t (List.mem_cons_of_mem _ ht))
      have ht := hl t List.mem_cons_self
      unfold unk at hh ⊢
      by_cases q : 2 ≤ C.1 t
      · rw [List.filter_cons_of_pos (by rw [decide_eq_true_eq]; exact q), List.filter_cons_of_neg (by rw [decide_eq_true_eq]; omega), List.length_cons, List.length_cons]; omega
      · rw [List.filter_cons_of_neg (by rw [decide_eq_true_eq]; exact q), List.filter_cons_of_pos (by rw [decide_eq_true_eq]; omega), List.length_cons, List.length_cons]; omega
  have hs := hsum ML (fun t ht => ((h2 t).mp ht).2.1)
  refine ⟨⟨ML.filter (fun t => decide (2 ≤ C.1 t)), h1.filter _, by omega, fun t => ?_⟩, ⟨ML.filter (fun t => decide (C.1 t = 0)), h1.filter _, rfl, fun t => ?_⟩, PL, h3, rfl, fun e => ?_⟩
  · rw [List.mem_filter, decide_eq_true_eq, h2]
    exact ⟨fun ⟨⟨a, b, c⟩, d⟩ => ⟨a, d, c⟩, fun ⟨a, b, c⟩ => ⟨⟨a, by omega, c⟩, b⟩⟩
  · rw [List.mem_filter, decide_eq_true_eq, h2]
    exact ⟨fun ⟨⟨a, b, c⟩, d⟩ => ⟨a, d, c⟩, fun ⟨a, b, c⟩ => ⟨⟨a, by omega, c⟩, b⟩⟩
  · rw [h4, h2]
    constructor
    · rintro ⟨⟨a, b, d⟩, e⟩; exact ⟨a, d, e⟩
    · rintro ⟨a, d, v, v1, v2⟩
      exact ⟨⟨a, by rw [hk _ v a v1]; decide, d⟩, v, v1, v2⟩
/-- from the model's signs -/
theorem MSR.m {G : tG} {r hv : Nat → Nat} {hl : Nat → List Nat} {B : Nat → Prop} {DL : List Nat} (h1 : DL.Nodup) (h2 : ∀ t, t ∈ DL ↔ r t = t ∧ RQ G r (hC hl hv) B t) : MSR G r (hC hl hv) B (bxs G DL).length (unk G DL) (hpr G r hv hl DL).length := by
  refine ⟨⟨bxs G DL, h1.filter _, rfl, fun t => ?_⟩, ⟨DL.filter (fun t => decide (G.1 t = 0)), h1.filter _, rfl, fun t => ?_⟩, hpr G r hv hl DL, hpr_nodup h1, rfl, fun e => ?_⟩
  · unfold bxs
    rw [List.mem_filter, decide_eq_true_eq, h2]
    exact ⟨fun ⟨⟨a, b⟩, c⟩ => ⟨a, c, b⟩, fun ⟨a, b, c⟩ => ⟨⟨a, c⟩, b⟩⟩
  · rw [List.mem_filter, decide_eq_true_eq, h2]
    exact ⟨fun ⟨⟨a, b⟩, c⟩ => ⟨a, c, b⟩, fun ⟨a, b, c⟩ => ⟨⟨a, c⟩, b⟩⟩
  · unfold hpr
    rw [List.mem_flatMap]
    constructor
    · rintro ⟨t, t1, t2⟩
      obtain ⟨y, y1, y2⟩ := List.mem_map.mp t2
      rw [← y2]
      obtain ⟨i, i1, i2, i3, _⟩ := (hbx_mem (hl t) []).1 y1
      obtain ⟨k1, k2⟩ := (h2 t).mp t1
      exact ⟨k1, k2, hv i, ⟨i, i1, rfl⟩, i2, i3⟩
    · rintro ⟨t1, t2, v, ⟨i, i1, i2⟩, v2, v3⟩
      exact ⟨e.1, (h2 _).mpr ⟨t1, t2⟩, List.mem_map.mpr ⟨e.2, (hbx_mem (hl e.1) []).2 ⟨i, i1, by rw [i2]; exact v2, v3⟩ (fun k => by cases k), rfl⟩⟩
end COUNTS
