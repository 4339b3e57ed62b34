/-! REGIONS, THE COMPONENT: whether a function's own types are too much -/
section ISGREAT
variable {L : Nat} {xs : Nat → Int32} {σ σ' σ0 τ : tvS} {K1 K2 N H S : Nat} {G : tG} {r : Nat → Nat} {hl : Nat → List Nat} {hv : Nat → Nat} {D : pgD} {m f : Nat}
def RCE (K1 K2 N : Nat) (G : tG) (r : Nat → Nat) (hl : Nat → List Nat) (hv : Nat → Nat) (H S : Nat) (B : Nat → Prop) (ML : List Nat) (σ : tvS) : Prop :=
  RCH K1 K2 N G r hl hv H S ML σ ∧ (ML ≠ [] → rd σ 50 16 = i32 (unk G ML : Int) ∧ rd σ 50 17 = i32 ((hpr G r hv hl ML).length : Int)) ∧ (∀ t, t ∈ ML → G.1 t ≠ 1 ∧ RQ G r (hC hl hv) B t) ∧ (∀ t, t ∈ ML → 2 ≤ G.1 t → ∀ z, scs G hl hv t z → G.1 (r z) = 1 ∨ r z ∈ ML) ∧ ∀ b, B b → G.1 (r b) = 1 ∨ r b ∈ ML
theorem RCE.iff {B : Nat → Prop} {ML : List Nat} (h : RCE K1 K2 N G r hl hv H S B ML σ) (hk : ∀ t u, hC hl hv (r t) u → 2 ≤ G.1 (r t)) (hI : ∀ x, r (r x) = r x) (t : Nat) : t ∈ ML ↔ r t = t ∧ G.1 t ≠ 1 ∧ RQ G r (hC hl hv) B t := by
  obtain ⟨h1, h0, h2, h3, h4⟩ := h
  constructor
  · intro ht
    exact ⟨(h1.2.2.2.2.1 t ht).2, h2 t ht⟩
  · rintro ⟨k1, k2, k3⟩
    have := k3 (fun x => G.1 (r x) = 1 ∨ r x ∈ ML) (fun x y e k => by rw [← e]; exact k) (fun x z k hk2 hz => by
      rcases k with k | k
      · omega
      · exact h3 (r x) k hk2 z (.inl hz)) (fun x u k hu => by
      rcases k with k | k
      · have := hk x u hu; omega
      · obtain ⟨i, i1, i2⟩ := hu
        exact h3 (r x) k (hk x u ⟨i, i1, i2⟩) u (.inr ⟨i, i1, i2⟩)) h4
    rw [k1] at this
    exact this.resolve_left k2
theorem measure_c {x : Nat} {B : Nat → Prop} {ML : List Nat} (hI : ∀ x, r (r x) = r x) (hHK : HK N G r hl) (h : RCE K1 K2 N G r hl hv H S B ML σ) (hx : x < N) (d : Nat) (v2 v3 : Value) :
    ∃ (σ' : tvS) (ML' : List Nat), rn L xs (d + 4) 102 0 [.ref 50, .int (i32 (x : Int)), v2, v3] [] σ = some (.inl none, σ') ∧ RCE K1 K2 N G r hl hv H S (fun b => B b ∨ b = x) ML' σ' ∧ (rd σ' 50 16 = i32 (unk G ML' : Int) ∧ rd σ' 50 17 = i32 ((hpr G r hv hl ML').length : Int)) ∧ frT [52, 57, 61] [61] [14, 15, 16, 17] σ σ' := by
  obtain ⟨h1, h0, h2, h3, h4⟩ := h
  have hN := h1.1.1.lt h1.1.2.2
  have hML := nodup_lt h1.2.2.2.1 (fun x hx => (h1.2.2.2.2.1 x hx).1)
  -- counts are there
  obtain ⟨s0, e0, c0, w0⟩ : ∃ s0, rn L xs (d + 4) 102 0 [.ref 50, .int (i32 (x : Int)), v2, v3] [] σ = rn L xs (d + 4) 102 17 [.ref 50, .int (i32 (x : Int)), v2, v3] [] s0 ∧ RCN K1 K2 N G r hl hv H S ML s0 ∧ frT [] [] [16, 17] σ s0 := by
    by_cases q : ML = []
    · have w : frT [] [] [16, 17] σ (wr (wr σ 50 16 0) 50 17 0) := (show frT [] [] [16, 17] σ (wr σ 50 16 0) from ⟨frG_wr rfl, fun i hi => wr_nei (fun e => by rw [e] at hi; cases hi)⟩).trans ⟨frG_wr rfl, fun i hi => wr_nei (fun e => by rw [e] at hi; cases hi)⟩
      obtain ⟨⟨a1, a2, a3⟩, ⟨b1, b2⟩, c, e, g, k⟩ := id h1
      refine ⟨_, ?_, ⟨⟨⟨a1.T w rfl ⟨rfl, rfl, rfl, rfl⟩ (fun _ _ _ => rfl), a2.T w rfl ⟨rfl, rfl, rfl, rfl⟩ ⟨rfl, rfl⟩, a3.wr.wr⟩, ⟨(w.2 12 rfl).trans b1, b2⟩, fun x hx => by rw [w.rd (j := 57) rfl]; exact c x hx, e, g, (w.2 15 rfl).trans k⟩, ?_, ?_⟩, w⟩
      · rw [e102_0, h1.2.2.2.2.2, q]
        rfl
      · rw [q, wr_nei (by decide), wr_self]; rfl
      · rw [q, wr_self]; rfl
    · have hpos : 0 < ML.length := List.length_pos_iff.mpr q
      refine ⟨σ, ?_, ⟨h1, h0 q⟩, frT.refl⟩
      rw [e102_0, h1.2.2.2.2.2]
      have : pv_c1 .ne (i32 (ML.length : Int)) = true := by
        refine decide_eq_true (fun k => ?_)
        have := (i32_inj (by omega) (by omega) (by omega) (by omega)).mp (show i32 (ML.length : Int) = i32 ((0 : Nat) : Int) from k)
        omega
      rw [this, cond_true]
  have hC0 := c0.pop (x := (0 : Int32))
  have hW0 : WK (ints []) (wr s0 50 14 0) := ⟨wr_self _ _ _ _, Nat.zero_le _, trivial⟩
  obtain ⟨s1, p1, q1, R1, w1⟩ := push_T (L := L) (xs := xs) hC0.1.1.2.2 hW0 (by decide) (x : Int) (d + 2)
  have hC1 := hC0.push w1 R1
  obtain ⟨σ', ML', y1, y2, y3, y4, y5, y7⟩ := measure_loop (L := L) (xs := xs) (fun x _ => hI x) hHK (fun t => RQ G r (hC hl hv) (fun b => B b ∨ b = x) t) (fun t z q _ e k s => by
    rcases s with s | ⟨i, i1, i2⟩
    · exact (q.kid (by rw [e]; exact k) (by rw [e]; exact s)).cl (hI z).symm
    · exact (q.held (by rw [e]; exact ⟨i, i1, i2⟩)).cl (hI z).symm) d _ [x] ML s1 (.int (i32 (x : Int))) (dj v2) (dj v3) (Nat.le_refl _) hC1 q1 (fun z hz => by
      rw [List.mem_singleton.mp hz]
      exact ⟨hx, (RQ.base (.inr rfl)).cl (hI x).symm⟩) (fun t ht => ⟨(h2 t ht).1, (h2 t ht).2.mono (fun b k => .inl k)⟩) (fun t ht hk z hs => (h3 t ht hk z hs).elim .inl (fun k => .inr (.inl k))) (by show 1 ≤ _; omega)
  refine ⟨σ', ML', ?_, ⟨y2.1, fun _ => y2.2, y4, y5.1, fun b hb => ?_⟩, y2.2, ?_⟩
  · rw [e0, e102_17 (d + 3), bV_ok p1]; exact y1
  · rcases hb with hb | hb
    · exact (h4 b hb).elim .inl (fun k => .inr (y3 _ k))
    · rw [hb]; exact y5.2 x List.mem_cons_self
  · exact (w0.sub rfl rfl rfl).trans ((show frT [52, 57, 61] [61] [14, 15, 16, 17] s0 (wr s0 50 14 0) from ⟨frG_wr rfl, fun i hi => wr_nei (fun e => by rw [e] at hi; cases hi)⟩).trans ((w1.sub rfl rfl rfl).trans y7))
theorem hpr_nodup : ∀ {ML : List Nat}, ML.Nodup → (hpr G r hv hl ML).Nodup := by
  intro ML
  induction ML with
  | nil => intro _; exact List.nodup_nil
  | cons t ML ih =>
    intro h
    rw [List.nodup_cons] at h
    unfold hpr
    rw [List.flatMap_cons, List.nodup_append]
    refine ⟨?_, ih h.2, fun a ha b hb e => ?_⟩
    · rw [List.nodup_iff_pairwise_ne, List.pairwise_map]
      exact (hbx_nodup (hl t) []).imp (fun hne e => hne (congrArg Prod.snd e))
    · obtain ⟨y, _, y2⟩ := List.mem_map.mp ha
      obtain ⟨t', t1, t2⟩ := List.mem_flatMap.mp hb
      obtain ⟨y', _, y2'⟩ := List.mem_map.mp t2
      rw [← y2, ← y2'] at e
      have : t = t' := congrArg Prod.fst e
      rw [this] at h
      exact h.1 t1
/-- the types of a function's signature -/
def SGb (D : pgD) (f : Nat) (vt : Nat → Nat) (rt : Nat) (b : Nat) : Prop := b = rt ∨ ∃ k, k < D.bk f ∧ b = vt (D.tV f + k)
theorem great_loop (hF : PGF D m) (hf : f ≤ D.fc) (hR : PGR D σ0 τ) (hI : ∀ x, r (r x) = r x) (hHK : HK N G r hl) (hv67 : ∀ k, k < D.bk f → rd σ0 67 (D.tV f + k) = i32 (vT σ0 (D.tV f + k) : Int) ∧ vT σ0 (D.tV f + k) < N) (htv : D.tV f + D.bk f ≤ 3000) (d : Nat) : ∀ (j k : Nat) (σ : tvS) (B : Nat → Prop) (ML : List Nat), k + j = D.bk f → RCE K1 K2 N G r hl hv H S B ML σ → (rd σ 50 16 = i32 (unk G ML : Int) ∧ rd σ 50 17 = i32 ((hpr G r hv hl ML).length : Int)) → frT [52, 57, 61] [61] [12, 14, 15, 16, 17] σ0 σ →
    ∃ (σ' : tvS) (ML' : List Nat), rn L xs (d + 5) 178 24 [.ref 74, .int (i32 (f : Int)), .int (i32 (k : Int))] [] σ = rn L xs (d + 5) 178 59 [.ref 74, .int (i32 (f : Int)), .int (i32 (D.bk f : Int))] [] σ' ∧ RCE K1 K2 N G r hl hv H S (fun b => B b ∨ ∃ i, k ≤ i ∧ i < D.bk f ∧ b = vT σ0 (D.tV f + i)) ML' σ' ∧ (rd σ' 50 16 = i32 (unk G ML' : Int) ∧ rd σ' 50 17 = i32 ((hpr G r hv hl ML').length : Int)) ∧ frT [52, 57, 61] [61] [12, 14, 15, 16, 17] σ0 σ' := by
  have hb4 := hF.1
  have hff := hR.1 f hf
  have hk5 := (hF.2.2 f hf).1.2.2.2
  intro j
  induction j with
  | zero =>
    intro k σ B ML e h hc w
    have e : k = D.bk f := by omega
    subst e
    refine ⟨σ, ML, ?_, ?_, hc, w⟩
    · rw [e178_24 (d + 4), c_in (by omega) (by omega) (by omega), i32_ixn (by omega), w.rd (j := 44) rfl, hff.1.1, c2_ge (by omega) (by omega) (by omega) (by omega), c_t (by omega)]
    · obtain ⟨h1, h0, h2, h3, h4⟩ := h
      exact ⟨h1, h0, fun t ht => ⟨(h2 t ht).1, (h2 t ht).2.mono (fun b k => .inl k)⟩, h3, fun b hb => hb.elim (h4 b) (fun ⟨i, i1, i2, _⟩ => by omega)⟩
  | succ j ih =>
    intro k σ B ML e h hc w
    obtain ⟨t1, t2⟩ := hv67 k (by omega)
    have ei : i32 (D.tV f : Int) + i32 (k : Int) = i32 ((D.tV f + k : Nat) : Int) := by rw [i32_add]; congr 1
    have e144 : rn L xs (d + 4) 144 0 [.ref 65, .int (i32 (f : Int)), .int (i32 (k : Int))] [] σ = some (.inl (some (.int (i32 (vT σ0 (D.tV f + k) : Int)))), σ) := by
      rw [e144_0, c_in (by omega) (by omega) (by omega), i32_ixn (by omega), w.rd (j := 45) rfl, hff.1.2.1, ei, c_in (by omega) (by omega) (by omega), i32_ixn (by omega), w.rd (j := 67) rfl, t1]
    obtain ⟨s1, ML1, a1, a2, a3, a4⟩ := measure_c (L := L) (xs := xs) hI hHK h t2 d jv jv
    obtain ⟨σ', ML', z1, z2, z3, z4⟩ := ih (k + 1) s1 _ ML1 (by omega) a2 a3 (w.trans (a4.sub rfl rfl rfl))
    refine ⟨σ', ML', ?_, ?_, z3, z4⟩
    · rw [e178_24 (d + 4), c_in (by omega) (by omega) (by omega), i32_ixn (by omega), w.rd (j := 44) rfl, hff.1.1, c2_ge (by omega) (by omega) (by omega) (by omega), c_f (by omega), bI_ok e144, bV_ok a1, i32_up]
      exact z1
    · have eb : ∀ b, ((B b ∨ b = vT σ0 (D.tV f + k)) ∨ ∃ i, k + 1 ≤ i ∧ i < D.bk f ∧ b = vT σ0 (D.tV f + i)) ↔ (B b ∨ ∃ i, k ≤ i ∧ i < D.bk f ∧ b = vT σ0 (D.tV f + i)) := fun b => by
        constructor
        · rintro ((q | q) | ⟨i, i1, i2, i3⟩)
          · exact .inl q
          · exact .inr ⟨k, Nat.le_refl _, by omega, q⟩
          · exact .inr ⟨i, by omega, i2, i3⟩
        · rintro (q | ⟨i, i1, i2, i3⟩)
          · exact .inl (.inl q)
          · by_cases e : i = k
            · rw [e] at i3; exact .inl (.inr i3)
            · exact .inr ⟨i, by omega, i2, i3⟩
      obtain ⟨h1, h0, h2, h3, h4⟩ := z2
      exact ⟨h1, h0, fun t ht => ⟨(h2 t ht).1, (h2 t ht).2.mono (fun b k => (eb b).mp k)⟩, h3, fun b hb => h4 b ((eb b).mpr hb)⟩
theorem isGreat_c {C : tG} {c : Nat → Nat} {h : Nat → Nat → Prop} (hF : PGF D m) (hf : f ≤ D.fc) (hR : PGR D σ0 τ) (hv67 : ∀ k, k < D.bk f → rd σ0 67 (D.tV f + k) = i32 (vT σ0 (D.tV f + k) : Int) ∧ vT σ0 (D.tV f + k) < N) (htv : D.tV f + D.bk f ≤ 3000) (h68 : rd σ0 68 f = i32 (rT σ0 f : Int) ∧ rT σ0 f < N) (hT : CT K1 K2 N C c h H S σ) (hS : S + 2 < 2147483648) (w : frT [52, 57, 61] [61] [12, 14, 15, 16, 17] σ0 σ) (d : Nat) :
    ∃ (σ' : tvS) (ML : List Nat) (PL : List (Nat × Nat)) (y : Int32), rn L xs (d + 5) 178 0 [.ref 74, .int (i32 (f : Int)), jv] [] σ = some (.inl (some (.int y)), σ') ∧ (y = 0 ∨ y = 1) ∧ (y = 1 ↔ 24 < ML.length - unk C ML ∨ 40 < unk C ML ∨ 100 < PL.length) ∧ ML.Nodup ∧ (∀ t, t ∈ ML ↔ c t = t ∧ C.1 t ≠ 1 ∧ RQ C c h (SGb D f (vT σ0) (rT σ0 f)) t) ∧ PL.Nodup ∧ (∀ e, e ∈ PL ↔ e.1 ∈ ML ∧ ∃ v, h e.1 v ∧ c v = e.2 ∧ C.1 e.2 ≠ 1) ∧ CT K1 K2 N C c h H (S + 2) σ' ∧ frT [52, 57, 61] [61] [12, 14, 15, 16, 17] σ0 σ' := by
  obtain ⟨hl, hv, h1, h2, h3, h4, h5, h6, h7, h8⟩ := hT
  have hb4 := hF.1
  have hI := h6.1
  obtain ⟨s1, a1, a2, a3⟩ := begin_c (L := L) (xs := xs) h1 h2 h5 h4 hS (d + 3)
  have hE1 : RCE K1 K2 N C c hl hv H (S + 2) (fun _ => False) [] s1 := ⟨a2.1, fun k => absurd rfl k, fun t ht => (by cases ht), fun t ht => (by cases ht), fun b hb => hb.elim⟩
  have w1 : frT [52, 57, 61] [61] [12, 14, 15, 16, 17] σ0 s1 := w.trans (a3.sub rfl rfl rfl)
  have e157 : rn L xs (d + 4) 157 0 [.ref 65, .int (i32 (f : Int))] [] s1 = some (.inl (some (.int (i32 (rT σ0 f : Int)))), s1) := by
    rw [e157_0, c_in (by omega) (by omega) (by omega), i32_ixn (by omega), w1.rd (j := 68) rfl, h68.1]
  obtain ⟨s2, ML1, b1, b2, b3, b4⟩ := measure_c (L := L) (xs := xs) hI h3 hE1 h68.2 d jv jv
  obtain ⟨s3, ML, c1, c2, c3, c4⟩ := great_loop (L := L) (xs := xs) (σ0 := σ0) hF hf hR hI h3 hv67 htv d (D.bk f) 0 s2 _ ML1 (by omega) b2 b3 (w1.trans (b4.sub rfl rfl rfl))
  have hkk : ∀ t u, hC hl hv (c t) u → 2 ≤ C.1 (c t) := fun t u hu => by
    obtain ⟨i, i1, i2⟩ := hu
    have hne : hl (c t) ≠ [] := fun e => by rw [e] at i1; cases i1
    by_cases q : c t < N
    · rw [h3 _ q (hI t) hne]; decide
    · exact absurd (h7 _ (by omega)) hne
  have hml : ∀ t, t ∈ ML ↔ c t = t ∧ C.1 t ≠ 1 ∧ RQ C c h (SGb D f (vT σ0) (rT σ0 f)) t := fun t => by
    rw [c2.iff hkk hI t, h8]
    have eb : ∀ b, (((False ∨ b = rT σ0 f) ∨ ∃ i, 0 ≤ i ∧ i < D.bk f ∧ b = vT σ0 (D.tV f + i))) ↔ SGb D f (vT σ0) (rT σ0 f) b := fun b => by
      unfold SGb
      constructor
      · rintro ((q | q) | ⟨i, _, i2, i3⟩)
        · exact q.elim
        · exact .inl q
        · exact .inr ⟨i, i2, i3⟩
      · rintro (q | ⟨i, i2, i3⟩)
        · exact .inl (.inr q)
        · exact .inr ⟨i, Nat.zero_le _, i2, i3⟩
    exact ⟨fun ⟨k1, k2, k3⟩ => ⟨k1, k2, k3.mono (fun b k => (eb b).mp k)⟩, fun ⟨k1, k2, k3⟩ => ⟨k1, k2, k3.mono (fun b k => (eb b).mpr k)⟩⟩
  have hnd := c2.1.2.2.2.1
  have hlN := nodup_lt hnd (fun x hx => (c2.1.2.2.2.2.1 x hx).1)
  have hN := c2.1.1.1.lt c2.1.1.2.2
  have hun : unk C ML ≤ ML.length := List.length_filter_le _ _
  have hpm : ∀ e, e ∈ hpr C c hv hl ML ↔ e.1 ∈ ML ∧ ∃ v, h e.1 v ∧ c v = e.2 ∧ C.1 e.2 ≠ 1 := fun e => by
    unfold hpr
    rw [List.mem_flatMap, h8]
    constructor
    · rintro ⟨t, t1, t2⟩
      obtain ⟨y, y1, y2⟩ := List.mem_map.mp t2
      rw [← y2]
      obtain ⟨i, i1, i2, i3, _⟩ := (hbx_mem (hl t) []).1 y1
      exact ⟨t1, hv i, ⟨i, i1, rfl⟩, i2, i3⟩
    · rintro ⟨t1, v, ⟨i, i1, i2⟩, v2, v3⟩
      exact ⟨e.1, t1, List.mem_map.mpr ⟨e.2, (hbx_mem (hl e.1) []).2 ⟨i, i1, by rw [i2]; exact v2, v3⟩ (fun k => by cases k), rfl⟩⟩
  have hpd : (hpr C c hv hl ML).Nodup := hpr_nodup hnd
  have hpl : (hpr C c hv hl ML).length ≤ 212992 := by
    have h1 := (flat_len c2.1.1.2.1 ML hnd c2.1.2.2.2.2.1).2.2
    have h2 : (hpr C c hv hl ML).length ≤ (ML.flatMap hl).length := by
      unfold hpr
      clear c1 c2 c3 hml hnd hlN hun hpm hpd h1
      induction ML with
      | nil => exact Nat.le_refl _
      | cons t ML ih =>
        rw [List.flatMap_cons, List.flatMap_cons, List.length_append, List.length_append, List.length_map]
        have := hbx_len (C := C) (c := c) (hv := hv) (hl t) []
        omega
    have b59 := c2.1.1.2.2.le (k := 59) (M := 212992) (by decide)
    have := c2.1.1.2.1.2.1
    omega
  have eF : (ML.length : Int) - (unk C ML : Int) = ((ML.length - unk C ML : Nat) : Int) := by omega
  have run : rn L xs (d + 5) 178 0 [.ref 74, .int (i32 (f : Int)), jv] [] σ = rn L xs (d + 5) 178 59 [.ref 74, .int (i32 (f : Int)), .int (i32 (D.bk f : Int))] [] s3 := by
    rw [e178_0 (d + 4), bV_ok a1, bI_ok e157, bV_ok b1]
    exact c1
  have run2 : rn L xs (d + 5) 178 59 [.ref 74, .int (i32 (f : Int)), .int (i32 (D.bk f : Int))] [] s3 = cond (decide (((ML.length - unk C ML : Nat) : Int) > 24)) (some (.inl (some (.int 1)), s3)) (cond (decide ((unk C ML : Int) > 40)) (some (.inl (some (.int 1)), s3)) (cond (decide (((hpr C c hv hl ML).length : Int) ≤ 100)) (some (.inl (some (.int 0)), s3)) (some (.inl (some (.int 1)), s3)))) := by
    have f95 : ∀ w1 w2 : Value, rn L xs (d + 5) 178 95 [.ref 74, w1, w2] [] s3 = some (.inl (some (.int 1)), s3) := fun w1 w2 => by rw [e178_95, e178_100, b01_1, cond_true]
    have f99 : ∀ w1 w2 : Value, rn L xs (d + 5) 178 99 [.ref 74, w1, w2] [] s3 = some (.inl (some (.int 0)), s3) := fun w1 w2 => by rw [e178_99, e178_100, b01_0, cond_true]
    rw [e178_59 (d + 4), bI_ok (e104_0 (d + 3) s3), c2.1.2.2.2.2.2, c3.1, i32_sub, eF, show (24 : Int32) = i32 24 from rfl, c2_gt (by omega) (by omega) (by omega) (by omega), f95, bI_ok (e105_0 (d + 3) s3), c3.1, show (40 : Int32) = i32 40 from rfl, c2_gt (by omega) (by omega) (by omega) (by omega), f95, bI_ok (e106_0 (d + 3) s3), c3.2, show (100 : Int32) = i32 100 from rfl, c2_le (by omega) (by omega) (by omega) (by omega), f95, f99]
  have hCT : CT K1 K2 N C c h H (S + 2) s3 := ⟨hl, hv, c2.1.1.1, c2.1.1.2.1, h3, ⟨c2.1.2.1.1, fun x hx => by
    obtain ⟨s, q1, q2, _⟩ := c2.1.2.2.1 x hx
    exact ⟨s, q1, q2⟩⟩, c2.1.1.2.2, h6, h7, h8⟩
  by_cases q1 : 24 < ML.length - unk C ML
  · exact ⟨s3, ML, hpr C c hv hl ML, 1, by rw [run, run2, decide_eq_true (by omega), cond_true], .inr rfl, ⟨fun _ => .inl q1, fun _ => rfl⟩, hnd, hml, hpd, hpm, hCT, c4⟩
  · by_cases q2 : 40 < unk C ML
    · exact ⟨s3, ML, hpr C c hv hl ML, 1, by rw [run, run2, decide_eq_false (by omega), cond_false, decide_eq_true (by omega), cond_true], .inr rfl, ⟨fun _ => .inr (.inl q2), fun _ => rfl⟩, hnd, hml, hpd, hpm, hCT, c4⟩
    · by_cases q3 : 100 < (hpr C c hv hl ML).length
      · exact ⟨s3, ML, hpr C c hv hl ML, 1, by rw [run, run2, decide_eq_false (by omega), cond_false, decide_eq_false (by omega), cond_false, decide_eq_false (by omega), cond_false], .inr rfl, ⟨fun _ => .inr (.inr q3), fun _ => rfl⟩, hnd, hml, hpd, hpm, hCT, c4⟩
      · exact ⟨s3, ML, hpr C c hv hl ML, 0, by rw [run, run2, decide_eq_false (by omega), cond_false, decide_eq_false (by omega), cond_false, decide_eq_true (by omega), cond_true], .inl rfl, ⟨fun k => (by cases k), fun k => by omega⟩, hnd, hml, hpd, hpm, hCT, c4⟩
end ISGREAT
