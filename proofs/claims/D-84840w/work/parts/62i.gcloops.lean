/-! COLLECTIONS, COMPONENT: the whole of it -/
/-- the stack -/
def CSt (n : Nat) (sv : Nat → vaL) (pl : Nat → Nat) (σ : tvS) : Prop := rd σ 100 2 = i32 (n : Int) ∧ n ≤ 4000 ∧ ∀ k, k < n → rd σ 101 k = cwd pl (sv k) ∧ rd σ 102 k = i32 ((sv k).1 : Int) ∧ (sv k).1 ≤ 2
/-- objects that are reached -/
def CHp (D : pgD) (X : dyD) (n : Nat) (pl : Nat → Nat) (s : cSt) (pg : Nat → List Nat) (wd : Nat) (σ : tvS) : Prop := (∀ o, RCO X n o → PLa pg s wd (X.hp o) (pl o) ∧ CObw D (fun _ v => cwd pl v) (X.hp o) (pl o) σ) ∧ DJo X.hp pl (RCO X n)
/-- pages of regions -/
def exR (pg : Nat → List Nat) : Nat → Nat → List Nat
  | _, 0 => []
  | r, j + 1 => pg r ++ exR pg (r + 1) j
section COLLC
variable {L : Nat} {xs : Nat → Int32} {σ σ' σ0 : tvS} {D : pgD} {rg : rgD} {cd : cdD} {X : dyD} {n nr wd pgs k t o p r : Nat} {pl np : Nat → Nat} {Q Q' Q0 fl ex : List Nat} {s : cSt} {pg pg0 : Nat → List Nat} {A : alD} {cl cp U pk sz : Nat}
theorem exR_mem {p : Nat} : ∀ (j r : Nat), p ∈ exR pg r j ↔ ∃ q, r ≤ q ∧ q < r + j ∧ p ∈ pg q := by
  intro j
  induction j with
  | zero => intro r; exact ⟨fun h => (List.not_mem_nil h).elim, fun ⟨q, h1, h2, _⟩ => absurd h2 (by omega)⟩
  | succ j ih =>
    intro r
    show p ∈ pg r ++ exR pg (r + 1) j ↔ _
    rw [List.mem_append, ih (r + 1)]
    constructor
    · rintro (h | ⟨q, h1, h2, h3⟩)
      · exact ⟨r, by omega, by omega, h⟩
      · exact ⟨q, by omega, by omega, h3⟩
    · rintro ⟨q, h1, h2, h3⟩
      by_cases e : q = r
      · subst e; exact .inl h3
      · exact .inr ⟨q, by omega, by omega, h3⟩
theorem exR_len : ∀ (j r : Nat), (exR pg r j).length = sumF (fun q => (pg q).length) r j := by
  intro j
  induction j with
  | zero => intro r; rfl
  | succ j ih =>
    intro r
    show (pg r ++ exR pg (r + 1) j).length = _
    rw [List.length_append, ih (r + 1), show j + 1 = 1 + j by omega, sumF_add]
    have e : sumF (fun q => (pg q).length) r 1 = (pg r).length := by show 0 + (pg (r + 0)).length = _; rw [Nat.add_zero, Nat.zero_add]
    rw [e]
/-- regions are cleared -/
theorem cclear_loop (hP : CPo s pg fl [] nr wd pgs σ0) (d : Nat) : ∀ (j r : Nat) (σ : tvS) (v2 : Value), r + j = nr → frW [110, 111, 112, 113, 114, 115] σ0 σ → (∀ q, q < r → rd σ 115 q = hdP (pg q) ∧ rd σ 110 q = i32 (-1) ∧ rd σ 111 q = i32 (-1) ∧ rd σ 112 q = 0 ∧ rd σ 113 q = 0 ∧ rd σ 114 q = 0) → (∀ q, r ≤ q → rd σ 110 q = rd σ0 110 q) →
    ∃ σ' v1 v2', rn L xs (d + 2) 231 2 [.ref 103, .int (i32 (r : Int)), v2] [] σ = rn L xs (d + 2) 231 33 [.ref 103, v1, v2'] [] σ' ∧ frW [110, 111, 112, 113, 114, 115] σ0 σ' ∧ ∀ q, q < nr → rd σ' 115 q = hdP (pg q) ∧ rd σ' 110 q = i32 (-1) ∧ rd σ' 111 q = i32 (-1) ∧ rd σ' 112 q = 0 ∧ rd σ' 113 q = 0 ∧ rd σ' 114 q = 0 := by
  obtain ⟨⟨a1, a2, a3, a4, a5, a6, a7, a8⟩, b, c, hPG, e, f1, f2, f3, f4⟩ := hP
  intro j
  induction j with
  | zero =>
    intro r σ v2 hr w hq _
    have er : r = nr := by omega
    subst er
    exact ⟨σ, .int (i32 (r : Int)), v2, by rw [e231_2, w.1 103 rfl, a6, c2_ge (by omega) (by omega) (by omega) (by omega), c_t (by omega)], w, hq⟩
  | succ j ih =>
    intro r σ v2 hr w hq h110
    have hr' : r < nr := by omega
    obtain ⟨σ1, e1⟩ : ∃ σ1, σ1 = wr (wr (wr (wr (wr (wr σ 115 r (hdP (pg r))) 110 r (i32 (-1))) 111 r (i32 (-1))) 112 r 0) 113 r 0) 114 r 0 := ⟨_, rfl⟩
    have p1 : rn L xs (d + 1) 232 0 [.ref 103, .int (i32 (r : Int))] [] (wr σ 115 r (hdP (pg r))) = some (.inl none, σ1) := by
      rw [e232_0, c_in (by omega) (by omega) (by omega), c_in (by omega) (by omega) (by omega), c_in (by omega) (by omega) (by omega), c_in (by omega) (by omega) (by omega), c_in (by omega) (by omega) (by omega), i32_ixn (by omega), i32_raw, ← e1]
    have h0 : rd σ 110 r = hdP (pg r) := by rw [h110 r (Nat.le_refl _)]; exact (c r hr').1.1
    have w1 : frW [110, 111, 112, 113, 114, 115] σ σ1 := by rw [e1]; exact (((((frW_wr rfl).trans (frW_wr rfl)).trans (frW_wr rfl)).trans (frW_wr rfl)).trans (frW_wr rfl)).trans (frW_wr rfl)
    obtain ⟨σ', v1, v2', b1, b2, b3⟩ := ih (r + 1) σ1 (dj v2) (by omega) (w.trans w1) (fun q hq' => by
      by_cases eq : q = r
      · subst eq
        refine ⟨?_, ?_, ?_, ?_, ?_, ?_⟩
        · rw [e1, wr_nek (by decide), wr_nek (by decide), wr_nek (by decide), wr_nek (by decide), wr_nek (by decide), wr_self]
        · rw [e1, wr_nek (by decide), wr_nek (by decide), wr_nek (by decide), wr_nek (by decide), wr_self]
        · rw [e1, wr_nek (by decide), wr_nek (by decide), wr_nek (by decide), wr_self]
        · rw [e1, wr_nek (by decide), wr_nek (by decide), wr_self]
        · rw [e1, wr_nek (by decide), wr_self]
        · rw [e1, wr_self]
      · have := hq q (by omega)
        refine ⟨?_, ?_, ?_, ?_, ?_, ?_⟩
        · rw [e1, wr_nek (by decide), wr_nek (by decide), wr_nek (by decide), wr_nek (by decide), wr_nek (by decide), wr_nei eq]; exact this.1
        · rw [e1, wr_nek (by decide), wr_nek (by decide), wr_nek (by decide), wr_nek (by decide), wr_nei eq, wr_nek (by decide)]; exact this.2.1
        · rw [e1, wr_nek (by decide), wr_nek (by decide), wr_nek (by decide), wr_nei eq, wr_nek (by decide), wr_nek (by decide)]; exact this.2.2.1
        · rw [e1, wr_nek (by decide), wr_nek (by decide), wr_nei eq, wr_nek (by decide), wr_nek (by decide), wr_nek (by decide)]; exact this.2.2.2.1
        · rw [e1, wr_nek (by decide), wr_nei eq, wr_nek (by decide), wr_nek (by decide), wr_nek (by decide), wr_nek (by decide)]; exact this.2.2.2.2.1
        · rw [e1, wr_nei eq, wr_nek (by decide), wr_nek (by decide), wr_nek (by decide), wr_nek (by decide), wr_nek (by decide)]; exact this.2.2.2.2.2) (fun q hq' => by
      have eq : q ≠ r := by omega
      rw [e1, wr_nek (by decide), wr_nek (by decide), wr_nek (by decide), wr_nek (by decide), wr_nei eq, wr_nek (by decide)]; exact h110 q (by omega))
    refine ⟨σ', v1, v2', ?_, b2, b3⟩
    rw [e231_2 (d + 1), w.1 103 rfl, a6, c2_ge (by omega) (by omega) (by omega) (by omega), c_f (by omega), c_in (by omega) (by omega) (by omega), c_in (by omega) (by omega) (by omega), i32_ixn (by omega), h0, bV_ok p1, i32_up]
    exact b1
/-- the stack in the midst -/
def CSm (n : Nat) (sv : Nat → vaL) (pl np : Nat → Nat) (k : Nat) (σ : tvS) : Prop := rd σ 100 2 = i32 (n : Int) ∧ ∀ i, i < n → rd σ 101 i = (if i < k then cwd np (sv i) else cwd pl (sv i)) ∧ rd σ 102 i = i32 ((sv i).1 : Int) ∧ (sv i).1 ≤ 2
def GFs (ex : List Nat) (σ0 σ : tvS) : Prop := frW [101, 102, 103, 104, 105, 106, 107, 110, 111, 112, 113, 114, 116] σ0 σ ∧ (∀ q, q ≠ 8 → q ≠ 9 → q ≠ 10 → q ≠ 26 → rd σ 103 q = rd σ0 103 q) ∧ ∀ q, q ∈ ex → rd σ 106 q = rd σ0 106 q
theorem GFr.toS (h : GFr ex σ0 σ) : GFs ex σ0 σ := ⟨h.1.sub rfl, h.2⟩
theorem GFs.tr {σ1 σ2 : tvS} (h : GFs ex σ0 σ1) (g : GFs ex σ1 σ2) : GFs ex σ0 σ2 := ⟨h.1.trans g.1, fun q q1 q2 q3 q4 => by rw [g.2.1 q q1 q2 q3 q4]; exact h.2.1 q q1 q2 q3 q4, fun q hq => by rw [g.2.2 q hq]; exact h.2.2 q hq⟩
theorem GFs.fail (h : GFs ex σ0 σ) (hp : rd σ 103 10 = i32 (pk : Int)) : GFa pk σ0 σ := ⟨h.1.sub rfl, h.2.1, hp⟩
theorem GCI.frame (h : GCI D rg cd X n pl np Q k t s pg fl ex nr wd pgs σ) (w : frW [101, 102] σ σ') : GCI D rg cd X n pl np Q k t s pg fl ex nr wd pgs σ' := by
  obtain ⟨g1, g2, g3, g4, g5, g6, g7, g8⟩ := h
  have hc : ∀ (f : Nat → vaL → Int32) (x : obD) (a : Nat), CObw D f x a σ → CObw D f x a σ' := fun f x a hh => hh.cong (fun j _ => ⟨w.1 104 rfl _, w.1 105 rfl _⟩) (fun _ _ _ => rfl)
  have hc1 : CPo s pg fl ex nr wd pgs σ' := by
    obtain ⟨⟨c1, c2, c3, c4, c5, c6, c7, c8⟩, cb, cc, ce⟩ := g1
    refine ⟨⟨by rw [w.1 103 rfl]; exact c1, by rw [w.1 103 rfl]; exact c2, by rw [w.1 103 rfl]; exact c3, by rw [w.1 103 rfl]; exact c4, by rw [w.1 103 rfl]; exact c5, by rw [w.1 103 rfl]; exact c6, by rw [w.1 103 rfl]; exact c7, by rw [w.1 103 rfl]; exact c8⟩, lkF.congr _ _ cb (fun q _ => w.1 106 rfl q), fun q hq => ?_, ce⟩
    obtain ⟨⟨k1, k2, k3, k4⟩, k5, k6, k7, k8⟩ := cc q hq
    exact ⟨⟨by rw [w.1 110 rfl]; exact k1, by rw [w.1 111 rfl]; exact k2, lkF.congr _ _ k3 (fun y _ => w.1 106 rfl y), fun y hy => by rw [w.1 107 rfl]; exact k4 y hy⟩, by rw [w.1 112 rfl]; exact k5, by rw [w.1 113 rfl]; exact k6, by rw [w.1 114 rfl]; exact k7, k8⟩
  refine ⟨hc1, by rw [w.1 103 rfl]; exact g2, g3, fun o ho => ?_, fun o ho => by rw [w.1 104 rfl]; exact g5 o ho, fun j o hj => ?_, g7, g8⟩
  · obtain ⟨⟨q, q1, q2, q3, q4⟩, c⟩ := g4 o ho
    exact ⟨⟨q, q1, q2, q3, by rw [w.1 107 rfl]; exact q4⟩, fun hn => hc _ _ _ (c hn)⟩
  · obtain ⟨b1, b2, b3, b4⟩ := g6 j o hj
    exact ⟨by rw [w.1 116 rfl]; exact b1, b2, hc _ _ _ b3, b4⟩
theorem stQ_mem {sv : Nat → vaL} {i : Nat} : ∀ k, i < k → (sv i).1 = 2 → oid (sv i) ∈ stQ sv k := by
  intro k
  induction k with
  | zero => intro h; omega
  | succ k ih =>
    intro h h2
    by_cases e : i = k
    · subst e; exact meQ_mem h2
    · exact meQ_pre.mem (ih (by omega) h2)
/-- the stack is met -/
theorem cstack_loop (hH : GCH D rg cd X n nr wd) (hC : CSz D rg cd σ0) (hex : ex.length = U) (hn : n ≤ 4000) (hV : ∀ k, k < n → VOK X.no (X.sv k)) (hpk : pk ≤ pgs) (d : Nat) :
    ∀ (j k : Nat) (σ : tvS) (np : Nat → Nat) (pg : Nat → List Nat) (fl : List Nat) (v2 : Value), k + j = n → GCI D rg cd X n pl np (stQ X.sv k) 0 0 (gcS (alQ X.hp wd (stQ X.sv k) (stQ X.sv k).length) cl cp U pk) pg fl ex nr wd pgs σ → CSm n X.sv pl np k σ → GFs ex σ0 σ →
    (∃ (σ' : tvS) (np' : Nat → Nat) (pg' : Nat → List Nat) (fl' : List Nat) (v1 v2' : Value), rn L xs (d + 5) 231 40 [.ref 103, .int (i32 (k : Int)), v2] [] σ = rn L xs (d + 5) 231 102 [.ref 103, v1, v2'] [] σ' ∧ GCI D rg cd X n pl np' (stQ X.sv n) 0 0 (gcS (alQ X.hp wd (stQ X.sv n) (stQ X.sv n).length) cl cp U pk) pg' fl' ex nr wd pgs σ' ∧ CSm n X.sv pl np' n σ' ∧ GFs ex σ0 σ') ∨
    (pgs < U + (alQ X.hp wd (stQ X.sv n) (stQ X.sv n).length).2 ∧ ∃ σ', rn L xs (d + 5) 231 40 [.ref 103, .int (i32 (k : Int)), v2] [] σ = some (.inl (some (.int 0)), σ') ∧ GFa pgs σ0 σ') := by
  intro j
  induction j with
  | zero =>
    intro k σ np pg fl v2 hk h hS hF
    have e : k = n := by omega
    subst e
    have p1 : rn L xs (d + 4) 217 0 [.ref 100] [] σ = some (.inl (some (.int (i32 (k : Int)))), σ) := by rw [e217_0, hS.1]
    refine .inl ⟨σ, np, pg, fl, .int (i32 (k : Int)), dj v2, ?_, h, hS, hF⟩
    rw [e231_40 (d + 4), bI_ok p1, c2_ge (by omega) (by omega) (by omega) (by omega), c_t (by omega)]
  | succ j ih =>
    intro k σ np pg fl v2 hk h hS hF
    obtain ⟨s1, s2⟩ := hS
    obtain ⟨b1, b2, b3⟩ := s2 k (by omega)
    rw [if_neg (by omega)] at b1
    have p1 : rn L xs (d + 4) 217 0 [.ref 100] [] σ = some (.inl (some (.int (i32 (n : Int)))), σ) := by rw [e217_0, s1]
    have p2 : rn L xs (d + 4) 218 0 [.ref 100, .int (i32 (k : Int))] [] σ = some (.inl (some (.int (i32 ((X.sv k).1 : Int)))), σ) := by rw [e218_0, c_in (by omega) (by omega) (by omega), i32_ixn (by omega), b2]
    by_cases c2 : (X.sv k).1 = 2
    · obtain ⟨o, o1, o2, o3⟩ := hV k (by omega) c2
      have hno := hH.2.1
      have eo : oid (X.sv k) = o := oid_of o1 (by omega)
      have hRv : RCO X n (oid (X.sv k)) := ⟨k, by omega, 0, by rw [eo, ← o1, ← c2], by omega, by omega⟩
      have b1' : rd σ 101 k = i32 (pl (oid (X.sv k)) : Int) := by rw [b1]; unfold cwd; rw [if_pos c2]
      have p3 : rn L xs (d + 4) 219 0 [.ref 100, .int (i32 (k : Int))] [] σ = some (.inl (some (.int (i32 (pl (oid (X.sv k)) : Int)))), σ) := by rw [e219_0, c_in (by omega) (by omega) (by omega), i32_ixn (by omega), b1']
      have head : ∀ R, rn L xs (d + 4) 233 0 [.ref 103, .int (i32 (pl (oid (X.sv k)) : Int)), jv, jv, jv, jv] [] σ = R → rn L xs (d + 5) 231 40 [.ref 103, .int (i32 (k : Int)), v2] [] σ = bI R (fun a4 s3 => cond (pv_c2 .ne a4 (i32 (-1))) (rn L xs (d + 5) 231 86 [.ref 103, .int (i32 (k : Int)), .int a4] [] s3) (some (.inl (some (.int 0)), s3))) X0 := fun R hR => by
        rw [e231_40 (d + 4), bI_ok p1, c2_ge (by omega) (by omega) (by omega) (by omega), c_f (by omega), bI_ok p2, c2, show i32 ((2 : Nat) : Int) = (2 : Int32) from rfl, c2_refl, e231_66 (d + 4), bI_ok p3, hR]; rfl
      have hlen := stQ_len (sv := X.sv) k
      rcases gmeet_c (L := L) (xs := xs) (v := X.sv k) h hH (fun j hj => by rw [hF.1.1 39 rfl, hF.1.1 84 rfl]; exact hC j hj) hex hn (.inl (by omega)) (by omega) hpk c2 hRv d with ⟨σ1, np1, pg1, fl1, g1, g2, g3, g4, g5, g6, g7⟩ | ⟨g1, g2, g3⟩
      · obtain ⟨σ2, e2⟩ : ∃ σ2, σ2 = wr (wr σ1 101 k (i32 (np1 (oid (X.sv k)) : Int))) 102 k (i32 ((2 : Nat) : Int)) := ⟨_, rfl⟩
        have p4 : rn L xs (d + 4) 220 0 [.ref 100, .int (i32 (k : Int)), .int (i32 (np1 (oid (X.sv k)) : Int)), .int 2] [] σ1 = some (.inl none, σ2) := by
          rw [e220_0, c_in (by omega) (by omega) (by omega), c_in (by omega) (by omega) (by omega), i32_ixn (by omega), show (2 : Int32) = i32 ((2 : Nat) : Int) from rfl, nar8 (by omega), ← e2]
        have w2 : frW [101, 102] σ1 σ2 := by rw [e2]; exact (frW_wr rfl).trans (frW_wr rfl)
        have hd : rn L xs (d + 5) 231 40 [.ref 103, .int (i32 (k : Int)), v2] [] σ = rn L xs (d + 5) 231 40 [.ref 103, .int (i32 ((k + 1 : Nat) : Int)), .int (i32 (np1 (oid (X.sv k)) : Int))] [] σ2 := by
          rw [head _ g4, bI_ok rfl, c2_ne (by omega) (by omega) (by omega) (by omega), c_t (by omega), e231_86 (d + 4), bV_ok p4, e231_96, i32_up]
        have hS2 : CSm n X.sv pl np1 (k + 1) σ2 := by
          refine ⟨by rw [w2.1 100 rfl, g7.1.1 100 rfl]; exact s1, fun i hi => ?_⟩
          obtain ⟨y1, y2, y3⟩ := s2 i hi
          by_cases e : i = k
          · subst e
            rw [if_pos (by omega)]
            refine ⟨?_, ?_, y3⟩
            · rw [e2, wr_nek (by decide), wr_self]; unfold cwd; rw [if_pos c2]
            · rw [e2, wr_self, c2]
          · refine ⟨?_, ?_, y3⟩
            · rw [e2, wr_nek (by decide), wr_nei e, g7.1.1 101 rfl, y1]
              by_cases c : i < k
              · rw [if_pos c, if_pos (by omega)]
                unfold cwd
                by_cases c3 : (X.sv i).1 = 2
                · rw [if_pos c3, if_pos c3, g3 _ (stQ_mem k c c3)]
                · rw [if_neg c3, if_neg c3]
              · rw [if_neg c, if_neg (by omega)]
            · rw [e2, wr_nei e, wr_nek (by decide), g7.1.1 102 rfl, y2]
        have hF2 : GFs ex σ0 σ2 := (hF.tr g7.toS).tr ⟨w2.sub rfl, fun _ _ _ _ _ => w2.1 103 rfl _, fun _ _ => w2.1 106 rfl _⟩
        rw [hd]
        exact ih (k + 1) σ2 np1 pg1 fl1 _ (by omega) (g5.frame w2) hS2 hF2
      · refine .inr ⟨?_, σ, ?_, hF.fail g3⟩
        · have hp2 : preQ (meQ (stQ X.sv k) (X.sv k)) (stQ X.sv n) := by
            have := stQ_mono (sv := X.sv) (n - (k + 1)) (k + 1)
            rw [show k + 1 + (n - (k + 1)) = n by omega] at this
            exact this
          have := alQ_le (hp := X.hp) (wd := wd) hp2
          omega
        · rw [head _ g2, bI_ok rfl, c2_ne (by omega) (by omega) (by omega) (by omega), c_f (by omega)]
    · have em : stQ X.sv (k + 1) = stQ X.sv k := by show meQ _ _ = _; unfold meQ; rw [if_neg (fun q => c2 q.1)]
      have hd : rn L xs (d + 5) 231 40 [.ref 103, .int (i32 (k : Int)), v2] [] σ = rn L xs (d + 5) 231 40 [.ref 103, .int (i32 ((k + 1 : Nat) : Int)), dj (dj v2)] [] σ := by
        conv => lhs; rw [e231_40 (d + 4), bI_ok p1, c2_ge (by omega) (by omega) (by omega) (by omega), c_f (by omega), bI_ok p2, show (2 : Int32) = i32 2 from rfl, c2_eq (by omega) (by omega) (by omega) (by omega), c_f (by omega), e231_96, i32_up]
      rw [hd]
      refine ih (k + 1) σ np pg fl _ (by omega) (by rw [em]; exact h) ⟨s1, fun i hi => ?_⟩ hF
      obtain ⟨y1, y2, y3⟩ := s2 i hi
      refine ⟨?_, y2, y3⟩
      rw [y1]
      by_cases e : i = k
      · subst e
        rw [if_neg (by omega), if_pos (by omega)]
        unfold cwd; rw [if_neg c2, if_neg c2]
      · by_cases c : i < k
        · rw [if_pos c, if_pos (by omega)]
        · rw [if_neg c, if_neg (by omega)]
/-- pages of before come back -/
theorem back_c (h0 : ∀ r, r < nr → (pg0 r).Nodup ∧ (∀ p, p ∈ pg0 r → ∀ r', r' < nr → p ∈ pg0 r' → r' = r) ∧ lkF (rd σ0 106) (pg0 r) (hdP (pg0 r))) (hL : ∀ r, r < nr → rd σ0 115 r = hdP (pg0 r)) (d : Nat) : ∀ (j r : Nat) (σ : tvS) (s : cSt) (fl : List Nat) (v2 : Value), r + j = nr → CPo s pg fl (exR pg0 r j) nr wd pgs σ → (∀ q, q ∈ exR pg0 r j → rd σ 106 q = rd σ0 106 q) → (∀ q, rd σ 115 q = rd σ0 115 q) → (exR pg0 r j).length ≤ s.U →
    ∃ (σ' : tvS) (fl' : List Nat) (v1 v2' : Value), rn L xs (d + 2) 231 135 [.ref 103, .int (i32 (r : Int)), v2] [] σ = rn L xs (d + 2) 231 159 [.ref 103, v1, v2'] [] σ' ∧ CPo (s.R, s.cl, s.cp, s.U - (exR pg0 r j).length, s.pk) pg fl' [] nr wd pgs σ' ∧ frW [103, 106] σ σ' ∧ ∀ q, q ≠ 8 → q ≠ 9 → rd σ' 103 q = rd σ 103 q := by
  intro j
  induction j with
  | zero =>
    intro r σ s fl v2 hr h _ _ _
    have er : r = nr := by omega
    subst er
    obtain ⟨⟨a1, a2, a3, a4, a5, a6, a7, a8⟩, b, c, hPG, e, f1, f2, f3, f4⟩ := id h
    refine ⟨σ, fl, .int (i32 (r : Int)), v2, ?_, h, frW.refl, fun _ _ _ => rfl⟩
    rw [e231_135, a6, c2_ge (by omega) (by omega) (by omega) (by omega), c_t (by omega)]
  | succ j ih =>
    intro r σ s fl v2 hr h h106 h115 hU
    obtain ⟨⟨a1, a2, a3, a4, a5, a6, a7, a8⟩, b, c, ⟨d1, d2, d3, d4⟩, e, f1, f2, f3, f4⟩ := h
    obtain ⟨n1, n2, n3⟩ := h0 r (by omega)
    have hin : ∀ p, p ∈ pg0 r → p ∈ exR pg0 r (j + 1) := fun p hp => List.mem_append_left _ hp
    have hlen : (exR pg0 r (j + 1)).length = (pg0 r).length + (exR pg0 (r + 1) j).length := List.length_append
    have e115 : rd σ 115 r = hdP (pg0 r) := by rw [h115]; exact hL r (by omega)
    obtain ⟨σ1, fl1, g1, g2, g3, g4, g5, g6⟩ := give_loop (L := L) (xs := xs) d (pg0 r) fl (hdP (pg0 r)) s.U σ (.int (hdP (pg0 r))) jv (lkF.congr _ _ n3 (fun q hq => h106 q (hin q hq))) n1 (fun p hp => ⟨by have := d4 p (hin p hp); omega, fun hm => (d3 p hm).2 (hin p hp)⟩) ⟨a3, b, a4⟩ (by omega) (by omega)
    have p1 : rn L xs (d + 1) 240 0 [.ref 103, .int (hdP (pg0 r)), jv, jv] [] σ = some (.inl none, σ1) := by rw [e240_0]; exact g1
    have hex : ∀ p, p ∈ exR pg0 (r + 1) j → p ∉ pg0 r := fun p hp hm => by
      obtain ⟨q, q1, q2, q3⟩ := (exR_mem _ _).mp hp
      have := n2 p hm q (by omega) q3
      omega
    have hC1 : CPo (s.R, s.cl, s.cp, s.U - (pg0 r).length, s.pk) pg fl1 (exR pg0 (r + 1) j) nr wd pgs σ1 := by
      refine ⟨⟨by rw [g6 4 (by decide) (by decide)]; exact a1, by rw [g6 5 (by decide) (by decide)]; exact a2, g3.1, g3.2.2, by rw [g6 10 (by decide) (by decide)]; exact a5, by rw [g6 19 (by decide) (by decide)]; exact a6, by rw [g6 22 (by decide) (by decide)]; exact a7, by rw [g6 23 (by decide) (by decide)]; exact a8⟩, g3.2.1, fun q hq => ?_, ⟨fun q hq => ⟨(d1 q hq).1, fun p hp => ?_⟩, ?_, fun p hp => ?_, fun p hp => d4 p (List.mem_append_right _ hp)⟩, ?_, f1, f2, f3, f4⟩
      · obtain ⟨⟨k1, k2, k3, k4⟩, k5, k6, k7, k8⟩ := c q hq
        refine ⟨⟨by rw [g4.1 110 rfl]; exact k1, by rw [g4.1 111 rfl]; exact k2, lkF.congr _ _ k3 (fun y hy => g5 y (fun hm => ((d1 q hq).2 y hy).2.2.1 (hin y hm))), fun y hy => by rw [g4.1 107 rfl]; exact k4 y hy⟩, by rw [g4.1 112 rfl]; exact k5, by rw [g4.1 113 rfl]; exact k6, by rw [g4.1 114 rfl]; exact k7, k8⟩
      · obtain ⟨y1, y2, y3, y4⟩ := (d1 q hq).2 p hp
        refine ⟨y1, fun hm => ?_, fun hm => y3 (List.mem_append_right _ hm), y4⟩
        rw [g2] at hm
        rcases List.mem_append.mp hm with g | g
        · exact y3 (hin p (List.mem_reverse.mp g))
        · exact y2 g
      · rw [g2, List.nodup_append]
        refine ⟨List.pairwise_reverse.mpr (n1.imp fun h => h.symm), d2, fun a ha b' hb' e' => ?_⟩
        exact (d3 b' hb').2 (by rw [← e']; exact hin a (List.mem_reverse.mp ha))
      · rw [g2] at hp
        rcases List.mem_append.mp hp with g | g
        · have g := List.mem_reverse.mp g
          exact ⟨d4 p (hin p g), fun hm => hex p hm g⟩
        · exact ⟨(d3 p g).1, fun hm => (d3 p g).2 (List.mem_append_right _ hm)⟩
      · rw [g2, List.length_append, List.length_reverse]
        show _ + (s.U - _) = _
        omega
    obtain ⟨σ', fl', v1, v2', i1, i2, i3, i4⟩ := ih (r + 1) σ1 (s.R, s.cl, s.cp, s.U - (pg0 r).length, s.pk) fl1 (dj v2) (by omega) hC1 (fun q hq => by rw [g5 q (hex q hq)]; exact h106 q (List.mem_append_right _ hq)) (fun q => by rw [g4.1 115 rfl]; exact h115 q) (by show _ ≤ s.U - _; omega)
    refine ⟨σ', fl', v1, v2', ?_, ?_, g4.trans i3, fun q q1 q2 => by rw [i4 q q1 q2, g6 q q1 q2]⟩
    · rw [e231_135 (d + 1), a6, c2_ge (by omega) (by omega) (by omega) (by omega), c_f (by omega), c_in (by omega) (by omega) (by omega), i32_ixn (by omega), e115, bV_ok p1, i32_up]
      exact i1
    · rw [hlen, show s.U - ((pg0 r).length + (exR pg0 (r + 1) j).length) = s.U - (pg0 r).length - (exR pg0 (r + 1) j).length by omega]
      exact i2
end COLLC
