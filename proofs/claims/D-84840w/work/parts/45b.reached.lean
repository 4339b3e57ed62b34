/-! REGIONS, THE COMPONENT: all that some types reach -/
section REACHED
variable {L : Nat} {xs : Nat → Int32} {σ σ' : tvS}
/-- reached from B, by parts and by what arrows hold -/
def RQ (G : tG) (r : Nat → Nat) (h : Nat → Nat → Prop) (B : Nat → Prop) (y : Nat) : Prop := ∀ X : Nat → Prop, (∀ x y, r x = r y → X x → X y) → (∀ x z, X x → 2 ≤ G.1 (r x) → z ∈ kids G (r x) → X z) → (∀ x u, X x → h (r x) u → X u) → (∀ b, B b → X b) → X y
theorem RQ.mono {G : tG} {r : Nat → Nat} {h : Nat → Nat → Prop} {B B' : Nat → Prop} {y : Nat} (q : RQ G r h B y) (hb : ∀ b, B b → B' b) : RQ G r h B' y := fun X x1 x2 x3 x4 => q X x1 x2 x3 (fun b k => x4 b (hb b k))
theorem RQ.cl {G : tG} {r : Nat → Nat} {h : Nat → Nat → Prop} {B : Nat → Prop} {x y : Nat} (q : RQ G r h B x) (e : r x = r y) : RQ G r h B y := fun X x1 x2 x3 x4 => x1 x y e (q X x1 x2 x3 x4)
theorem RQ.kid {G : tG} {r : Nat → Nat} {h : Nat → Nat → Prop} {B : Nat → Prop} {x z : Nat} (q : RQ G r h B x) (hk : 2 ≤ G.1 (r x)) (hz : z ∈ kids G (r x)) : RQ G r h B z := fun X x1 x2 x3 x4 => x2 x z (q X x1 x2 x3 x4) hk hz
theorem RQ.held {G : tG} {r : Nat → Nat} {h : Nat → Nat → Prop} {B : Nat → Prop} {x u : Nat} (q : RQ G r h B x) (hu : h (r x) u) : RQ G r h B u := fun X x1 x2 x3 x4 => x3 x u (q X x1 x2 x3 x4) hu
theorem RQ.base {G : tG} {r : Nat → Nat} {h : Nat → Nat → Prop} {B : Nat → Prop} {x : Nat} (q : B x) : RQ G r h B x := fun X x1 x2 x3 x4 => x4 x q
/-- all that B reaches is stamped -/
def RCD (K1 K2 N : Nat) (G : tG) (r : Nat → Nat) (hl : Nat → List Nat) (hv : Nat → Nat) (H S : Nat) (B : Nat → Prop) (ML : List Nat) (σ : tvS) : Prop :=
  RCH K1 K2 N G r hl hv H S ML σ ∧ (∀ t, t ∈ ML → 2 ≤ G.1 t ∧ RQ G r (hC hl hv) B t) ∧ (∀ t, t ∈ ML → ∀ z, scs G hl hv t z → G.1 (r z) < 2 ∨ r z ∈ ML) ∧ ∀ b, B b → G.1 (r b) < 2 ∨ r b ∈ ML
theorem RCD.iff {K1 K2 N : Nat} {G : tG} {r : Nat → Nat} {hl : Nat → List Nat} {hv : Nat → Nat} {H S : Nat} {B : Nat → Prop} {ML : List Nat} (h : RCD K1 K2 N G r hl hv H S B ML σ) (hk : ∀ t u, hC hl hv (r t) u → 2 ≤ G.1 (r t)) (hI : ∀ x, r (r x) = r x) (y : Nat) : r y ∈ ML ↔ RQ G r (hC hl hv) B y ∧ 2 ≤ G.1 (r y) := by
  obtain ⟨h1, h2, h3, h4⟩ := h
  constructor
  · intro k
    exact ⟨(h2 _ k).2.cl (hI y), (h2 _ k).1⟩
  · rintro ⟨q, k⟩
    have := q (fun y => G.1 (r y) < 2 ∨ r y ∈ ML) (fun x y e k => by rw [← e]; exact k) (fun x z k k2 hz => k.elim (fun k => by omega) (fun k => h3 _ k z (.inl hz))) (fun x u k hu => k.elim (fun k => by have := hk x u hu; omega) (fun k => by
      obtain ⟨i, i1, i2⟩ := hu
      exact h3 _ k u (.inr ⟨i, i1, i2⟩))) h4
    exact this.elim (fun k2 => by omega) id
theorem begin_c {K1 K2 N : Nat} {G : tG} {r : Nat → Nat} {hl : Nat → List Nat} {hv : Nat → Nat} {H S : Nat} (hT : TC N G r σ) (hH : HO N r hl hv H σ) (hR : ROOM K1 K2 σ) (hS : STP N S σ) (hS2 : S + 2 < 2147483648) (d : Nat) :
    ∃ σ', rn L xs (d + 1) 98 0 [.ref 50] [] σ = some (.inl none, σ') ∧ RCD K1 K2 N G r hl hv H (S + 2) (fun _ => False) [] σ' ∧ frT [] [] [12, 15] σ σ' := by
  have w : frT [] [] [12, 15] σ (wr (wr σ 50 12 (rd σ 50 12 + 2)) 50 15 0) := (show frT [] [] [12, 15] σ (wr σ 50 12 (rd σ 50 12 + 2)) from ⟨frG_wr rfl, fun i hi => wr_nei (fun e => by rw [e] at hi; cases hi)⟩).trans ⟨frG_wr rfl, fun i hi => wr_nei (fun e => by rw [e] at hi; cases hi)⟩
  refine ⟨_, e98_0 d σ, ⟨⟨⟨hT.T w rfl ⟨rfl, rfl, rfl, rfl⟩ (fun _ _ _ => rfl), hH.T w rfl ⟨rfl, rfl, rfl, rfl⟩ ⟨rfl, rfl⟩, hR.wr.wr⟩, ⟨?_, by omega⟩, fun x hx => ?_, List.nodup_nil, fun x hx => (by cases hx), wr_self _ _ _ _⟩, fun t ht => (by cases ht), fun t ht => (by cases ht), fun b hb => hb.elim⟩, w⟩
  · rw [wr_nei (by decide), wr_self, hS.1, show (2 : Int32) = i32 2 from rfl, i32_add]; rfl
  · rw [w.rd (j := 57) rfl]
    obtain ⟨s, s1, s2⟩ := hS.2 x hx
    exact ⟨s, by omega, s2, fun k => by omega, fun k => (by cases k)⟩
theorem reach_c {K1 K2 N : Nat} {G : tG} {r : Nat → Nat} {hl : Nat → List Nat} {hv : Nat → Nat} {H S x : Nat} {B : Nat → Prop} {ML : List Nat} (hI : ∀ x, r (r x) = r x) (h : RCD K1 K2 N G r hl hv H S B ML σ) (hx : x < N) (d : Nat) (v3 v4 : Value) :
    ∃ (σ' : tvS) (ML' : List Nat), rn L xs (d + 3) 99 0 [.ref 50, .int (i32 (x : Int)), .int (i32 1000000), v3, v4] [] σ = some (.inl none, σ') ∧ RCD K1 K2 N G r hl hv H S (fun b => B b ∨ b = x) ML' σ' ∧ frT [52, 57, 61] [61] [14, 15] σ σ' := by
  obtain ⟨h1, h2, h3, h4⟩ := h
  have hC0 := h1.pop (x := (0 : Int32))
  have hW0 : WK (ints []) (wr σ 50 14 0) := ⟨wr_self _ _ _ _, Nat.zero_le _, trivial⟩
  obtain ⟨s1, p1, q1, R1, w1⟩ := push_T (L := L) (xs := xs) hC0.1.2.2 hW0 (by decide) (x : Int) (d + 1)
  have hC1 := hC0.push w1 R1
  have hN := hC1.1.1.lt hC1.1.2.2
  obtain ⟨σ', ML', y1, y2, y3, y4, y5, y6, y7⟩ := reach_loop (L := L) (xs := xs) (M := 1000000) (fun x _ => hI x) (fun t => RQ G r (hC hl hv) (fun b => B b ∨ b = x) t) (fun t z q _ e k s => by
    rcases s with s | ⟨i, i1, i2⟩
    · exact (q.kid (by rw [e]; exact k) (by rw [e]; exact s)).cl (hI z).symm
    · exact (q.held (by rw [e]; exact ⟨i, i1, i2⟩)).cl (hI z).symm) (Nat.le_refl _) d _ [x] ML s1 (.int (i32 (x : Int))) (dj v3) (dj v4) (Nat.le_refl _) hC1 q1 (fun z hz => by
      rw [List.mem_singleton.mp hz]
      exact ⟨hx, (RQ.base (.inr rfl)).cl (hI x).symm⟩) (fun t ht => ⟨(h2 t ht).1, (h2 t ht).2.mono (fun b k => .inl k)⟩) (fun _ t ht z hs => (h3 t ht z hs).elim .inl (fun k => .inr (.inl k))) (by show 1 ≤ _; omega)
  have hl' : ML'.length ≤ 1000000 := by
    have := nodup_lt y2.2.2.2.1 (fun x hx => (y2.2.2.2.2.1 x hx).1)
    omega
  refine ⟨σ', ML', ?_, ⟨y2, y4, (y5 hl').1, fun b hb => ?_⟩, ?_⟩
  · rw [e99_0 (d + 2), bV_ok p1]; exact y1
  · rcases hb with hb | hb
    · exact (h4 b hb).elim .inl (fun k => .inr (y3 _ k))
    · rw [hb]; exact (y5 hl').2 x List.mem_cons_self
  · exact (show frT [52, 57, 61] [61] [14, 15] σ (wr σ 50 14 0) from ⟨frG_wr rfl, fun i hi => wr_nei (fun e => by rw [e] at hi; cases hi)⟩).trans ((w1.sub rfl rfl rfl).trans y7)
theorem isReached_c {K1 K2 N : Nat} {G : tG} {r : Nat → Nat} {hl : Nat → List Nat} {hv : Nat → Nat} {H S x : Nat} {B : Nat → Prop} {ML : List Nat} (h : RCD K1 K2 N G r hl hv H S B ML σ) (hx : x < N) (d : Nat) :
    ∃ (σ' : tvS), rn L xs (d + 2) 100 0 [.ref 50, .int (i32 (x : Int))] [] σ = some (.inl (some (.int (if r x ∈ ML then 1 else 0))), σ') ∧ RCD K1 K2 N G r hl hv H S B ML σ' ∧ frW [52] σ σ' := by
  obtain ⟨h1, h2, h3, h4⟩ := h
  obtain ⟨s1, f1, f2, f3, f4⟩ := find_C (L := L) (xs := xs) h1.1.1 h1.1.2.2 hx d jv jv jv
  have hC1 := h1.find f2 f3 f4
  have hrx := h1.1.1.rlt hx
  have hN := f2.lt f3
  have n57 : ln s1 57 = ln s1 51 := f2.2.2.2.1 57 (by omega) (by omega)
  have b51 := f3.le (k := 51) (M := 122880) (by decide)
  have l51 := f2.2.2.1
  obtain ⟨s, e1, e2, e3⟩ := hC1.2.2.1 (r x) hrx
  have e4 := hC1.2.1
  refine ⟨s1, ?_, ⟨hC1, h2, h3, h4⟩, f4⟩
  rw [e100_0 (d + 1), bI_ok f1, f4.rh 57, Nat.beq_refl, Bool.and_true, cond_true, c_in (by omega) (by omega) (by omega), i32_ixn (by omega), e2, e4.1, c2_ne (by omega) (by omega) (by omega) (by omega)]
  by_cases q : s = S
  · rw [c_f (by omega), e100_22, b01_1, cond_true, if_pos (e3.mp q)]
  · rw [c_t (by omega), e100_21, e100_22, b01_0, cond_true, if_neg (fun k => q (e3.mpr k))]
end REACHED
