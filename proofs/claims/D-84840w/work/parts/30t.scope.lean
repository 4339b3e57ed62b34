/-! READING: scopes are opened and closed; fns begin and end -/
def mOpen (τ : tvS) (v len S : Nat) : tvS := wr (wr (wr (wr (wr (wr (wr τ 147 v (i32 len)) 148 len (i32 v)) 123 40 (i32 (len + 1 : Nat))) 123 42 (i32 (S + 1 : Nat))) 149 (S + 1) (i32 v)) 150 (S + 1) (rd τ 123 43)) 123 43 (i32 (S + 1 : Nat))
def cFn (σ : tvS) (F : Nat) : tvS := wr (wr (wr (wr (wr (wr σ 15 26 (i32 (F + 1 : Nat))) 34 F (rd σ 62 6)) 37 F (i32 (-1))) 38 F (i32 (-1))) 39 F 0) 62 6 (i32 F)
section SCOPE
variable {L : Nat} {xs : Nat → Int32} {K1 K2 m : Nat} {μ : Nat → Nat} {g fc : Nat} {sc : List Nat} {fs fs' : List (Nat × Nat × List Nat)} {F D H n A P r r0 : Nat} {σ τ σ' τ' σ1 τ1 : tvS}
theorem mOpen_oth {v len S j i : Nat} (h1 : ¬ (j = 123 ∧ (i = 40 ∨ i = 42 ∨ i = 43))) (h2 : ¬ (147 ≤ j ∧ j ≤ 150)) : rd (mOpen τ v len S) j i = rd τ j i := by
  unfold mOpen
  rw [rd_wr, if_neg (by omega), rd_wr, if_neg (by omega), rd_wr, if_neg (by omega), rd_wr, if_neg (by omega), rd_wr, if_neg (by omega), rd_wr, if_neg (by omega), rd_wr, if_neg (by omega)]
theorem mOpen_123 {v len S : Nat} : rd (mOpen τ v len S) 123 40 = i32 (len + 1 : Nat) ∧ rd (mOpen τ v len S) 123 42 = i32 (S + 1 : Nat) ∧ rd (mOpen τ v len S) 123 43 = i32 (S + 1 : Nat) := by
  unfold mOpen
  refine ⟨?_, ?_, ?_⟩
  · rw [rd_wr, if_neg (by omega), wr_nek (by omega), wr_nek (by omega), rd_wr, if_neg (by omega), rd_wr, if_pos ⟨rfl, rfl⟩]
  · rw [rd_wr, if_neg (by omega), wr_nek (by omega), wr_nek (by omega), rd_wr, if_pos ⟨rfl, rfl⟩]
  · rw [rd_wr, if_pos ⟨rfl, rfl⟩]
theorem mOpen_ar {v len S : Nat} (i : Nat) : rd (mOpen τ v len S) 147 i = (if i = v then i32 len else rd τ 147 i) ∧ rd (mOpen τ v len S) 148 i = (if i = len then i32 v else rd τ 148 i) ∧ rd (mOpen τ v len S) 149 i = (if i = S + 1 then i32 v else rd τ 149 i) ∧ rd (mOpen τ v len S) 150 i = (if i = S + 1 then rd τ 123 43 else rd τ 150 i) := by
  unfold mOpen
  refine ⟨?_, ?_, ?_, ?_⟩
  · rw [wr_nek (by omega), wr_nek (by omega), wr_nek (by omega), wr_nek (by omega), wr_nek (by omega), wr_nek (by omega), rd_wr]
    by_cases q : i = v
    · rw [if_pos ⟨rfl, q⟩, if_pos q]
    · rw [if_neg (fun p => q p.2), if_neg q]
  · rw [wr_nek (by omega), wr_nek (by omega), wr_nek (by omega), wr_nek (by omega), wr_nek (by omega), rd_wr, wr_nek (by omega)]
    by_cases q : i = len
    · rw [if_pos ⟨rfl, q⟩, if_pos q]
    · rw [if_neg (fun p => q p.2), if_neg q]
  · rw [wr_nek (by omega), wr_nek (by omega), rd_wr, wr_nek (by omega), wr_nek (by omega), wr_nek (by omega), wr_nek (by omega)]
    by_cases q : i = S + 1
    · rw [if_pos ⟨rfl, q⟩, if_pos q]
    · rw [if_neg (fun p => q p.2), if_neg q]
  · rw [wr_nek (by omega), rd_wr, wr_nek (by omega), wr_nek (by omega), wr_nek (by omega), wr_nek (by omega), wr_nek (by omega)]
    by_cases q : i = S + 1
    · rw [if_pos ⟨rfl, q⟩, if_pos q]
    · rw [if_neg (fun p => q p.2), if_neg q]
theorem rev_getD_lt {v : Nat} {l : List Nat} {k : Nat} (h : k < l.length) : (v :: l).reverse.getD k 0 = l.reverse.getD k 0 := by
  rw [List.reverse_cons, List.getD_eq_getElem?_getD, List.getD_eq_getElem?_getD, List.getElem?_append_left (by rw [List.length_reverse]; exact h)]
theorem rev_getD_eq {v : Nat} {l : List Nat} : (v :: l).reverse.getD l.length 0 = v := by
  rw [List.reverse_cons, List.getD_eq_getElem?_getD, List.getElem?_append_right (by rw [List.length_reverse]; exact Nat.le_refl _), List.length_reverse, Nat.sub_self]
  rfl
theorem rev_getD_mem {l : List Nat} {k : Nat} (h : k < l.length) : l.reverse.getD k 0 ∈ l := by
  rw [List.getD_eq_getElem?_getD, List.getElem?_eq_getElem (by rw [List.length_reverse]; exact h)]
  exact List.mem_reverse.mp (List.getElem_mem _)
/-- a change of nothing but what is in scope: parts stay -/
theorem parts_sc {S S' : Nat} (a16 : ∀ p, p < P → prtR m S σ τ p) (hP : P ≤ 4101) (hS : S ≤ S') (hc : ∀ j i, j ≠ 62 → rd σ' j i = rd σ j i) (hmo : ∀ j i, ¬ (j = 123 ∧ (i = 40 ∨ i = 42 ∨ i = 43)) → ¬ (147 ≤ j ∧ j ≤ 150) → rd τ' j i = rd τ j i) (h149 : ∀ s, s ≤ S → rd τ' 149 s = rd τ 149 s ∧ rd τ' 150 s = rd τ 150 s) : ∀ p, p < P → prtR m S' σ' τ' p := by
  intro p hp
  exact (a16 p hp).stay (by omega) (fun j i _ _ _ _ _ _ => hc j i (by omega)) (fun j i _ _ _ => hc j i (by omega)) (fun e => by rw [hmo 159 p (by omega) (by omega), hc 24 p (by omega)]; exact e) (fun _ f _ _ _ => ⟨hc 35 f (by omega), hc 36 f (by omega)⟩)
    (fun l y hy => hy.congr (by rw [hc 15 19 (by omega)]; exact Nat.le_refl _) (fun v hv => ⟨hc 33 v (by omega), hc 32 v (by omega)⟩)) (fun v hv => hc 31 v (by omega)) (fun _ f _ _ => ⟨hc 44 f (by omega), hc 46 f (by omega)⟩) (by rw [hc 15 38 (by omega)]; exact Nat.le_refl _) (by rw [hc 15 19 (by omega)]; exact Nat.le_refl _)
    (fun l y hy => hy.congr hS _ _ h149) (fun j _ _ _ => hmo j p (by omega) (by omega)) (fun i _ => hmo 164 i (by omega) (by omega)) (by rw [hmo 123 60 (by omega) (by omega)]; exact Nat.le_refl _)
theorem CORE.scope {sc' : List Nat} {A' : Nat} (h : CORE K1 K2 m μ g fc sc fs F A P r σ τ) (hP : P ≤ 4101) (hA : A ≤ A') (hc0 : ∀ j i, ¬ (j = 62 ∧ i = 5) → rd σ' j i = rd σ j i) (h2 : σ'.2 = σ.2) (hmo : ∀ j i, ¬ (j = 123 ∧ (i = 40 ∨ i = 42 ∨ i = 43)) → ¬ (147 ≤ j ∧ j ≤ 150) → rd τ' j i = rd τ j i)
    (hS : ∀ V S, SCP V S sc σ τ → rd σ 15 19 = i32 V → V ≤ A → S ≤ A → ∃ S', S ≤ S' ∧ S' ≤ A' ∧ SCP V S' sc' σ' τ' ∧ ∀ s, s ≤ S → rd τ' 149 s = rd τ 149 s ∧ rd τ' 150 s = rd τ 150 s) (hsuf : sufF sc fs → sufF sc' fs) (hown : (∀ v, v ∈ sc → rd σ 31 v = ownF fs v) → ∀ v, v ∈ sc' → rd σ 31 v = ownF fs v) : CORE K1 K2 m μ g fc sc' fs F A' P r σ' τ' := by
  obtain ⟨V, S, C, q, cp, a1, a2, ⟨a3, a4⟩, ⟨a5, a6, a7, a8⟩, a9, ⟨a10, a11⟩, a12, a13, a14, a15, a16, a17, b1, b2, b3, b4, b5, b6, b7, b8, b9⟩ := h
  obtain ⟨S', s1, s2, s3, s4⟩ := hS V S a15 a5 a7 a8
  have hc : ∀ j i, j ≠ 62 → rd σ' j i = rd σ j i := fun j i hj => hc0 j i (fun q => hj q.1)
  have hc2 : ∀ i, i ≠ 5 → rd σ' 62 i = rd σ 62 i := fun i hi => hc0 62 i (fun q => hi q.2)
  have hr : ∀ j i, rl σ' j i = rl σ j i := fun j i => by unfold rl; rw [h2]
  have hln : ∀ j, ln σ' j = ln σ j := fun j => by unfold ln; rw [h2]
  have hrm : rm σ' = rm σ := by unfold rm; rw [h2]
  obtain ⟨l1, l2⟩ := a1.congr (σ' := σ') (τ' := τ') (fun j hj i => by have := inL3 hj; exact hc j i (by omega)) (fun i => hr _ _) (fun j hj i => by have := inL3 hj; exact hmo j i (by omega) (by omega))
  refine ⟨V, S', C, q, cp, l1, l2.trans a2, ⟨(hc 15 13 (by omega)).trans a3, (hmo 123 46 (by omega) (by omega)).trans a4⟩, ⟨(hc 15 19 (by omega)).trans a5, (hmo 123 36 (by omega) (by omega)).trans a6, by omega, s2⟩, (hc 15 26 (by omega)).trans a9, ⟨(hmo 123 60 (by omega) (by omega)).trans a10, a11⟩, (hmo 123 5 (by omega) (by omega)).trans a12,
    a13.congr l2 (hc2 7 (by omega)) (hc 15 38 (by omega)) (fun i => hc 44 i (by omega)) (fun i => hr _ _) (fun i => hr _ _) (fun i hi => hmo 123 i (by omega) (by omega)) (fun j hj i => by have := inL3 hj; exact hmo j i (by omega) (by omega)),
    a14.congr l2 (fun u hu => ⟨hc 30 u (by omega), hr _ _, hmo 146 u (by omega) (by omega), hmo 145 u (by omega) (by omega)⟩) (fun i => hr _ _) (fun i => hmo 129 i (by omega) (by omega)),
    s3, parts_sc (fun p hp => (a16 p hp).mono hA) hP s1 hc hmo s4, ?_, b1.congr (fun j _ _ i => hc j i (by omega)) (hc 15 29 (by omega)) (hln 40), ?_, hsuf b3, b4, fun e he => ?_, fun u hu => ?_, b7, fun p hp hk => ?_, fun f hf => ?_⟩
  · unfold roomC at a17 ⊢
    rw [hln, hln, hrm]
    exact a17
  · rw [hc2 6 (by omega)]; exact b2.congr _ _ (fun e _ => hc 34 e.1 (by omega))
  · obtain ⟨d1, d2, d3, d4⟩ := b5 e he
    exact ⟨d1, d2, d3, by rw [d4, capW.congr _ (fun i _ => ⟨hc 16 i (by omega), hc 27 i (by omega)⟩)]⟩
  · rw [hc 31 u (by omega)]
    exact hown b6 u hu
  · rw [hc 16 p (by omega)] at hk
    obtain ⟨f, s, l, d1, d2, d3, d4, d5, d6, d7⟩ := b8 p hp hk
    exact ⟨f, s, l, (hc 27 p (by omega)).trans d1, d2, d3, (hc 26 p (by omega)).trans d4, d5, by rw [hc 28 p (by omega)]; exact d6.congr _ _ (fun u _ => ⟨hc 33 u (by omega), hc 32 u (by omega)⟩), by rw [d7, capW.congr _ (fun i _ => ⟨hc 16 i (by omega), hc 27 i (by omega)⟩)]⟩
  · rcases b9 f hf with e | ⟨p, d1, d2, d3, d4⟩
    · exact Or.inl e
    · exact Or.inr ⟨p, d1, (hc 16 p (by omega)).trans d2, (hc 27 p (by omega)).trans d3, (hc 35 f (by omega)).trans d4⟩
theorem CORE.scS (h : CORE K1 K2 m μ g fc sc fs F A P r σ τ) : ∃ V S, SCP V S sc σ τ ∧ rd σ 15 19 = i32 V ∧ V ≤ A ∧ S ≤ A ∧ m ≤ 3000 ∧ rd τ 123 36 = i32 V ∧ FNC m g fc σ τ ∧ VARS m V σ τ := by
  obtain ⟨V, S, C, q, cp, a1, a2, ⟨a3, a4⟩, ⟨a5, a6, a7, a8⟩, a9, ⟨a10, a11⟩, a12, a13, a14, a15, _⟩ := h
  exact ⟨V, S, a15, a5, a7, a8, a1.1, a6, a13, a14⟩
theorem CORE.opn {v V A' : Nat} (h : CORE K1 K2 m μ g fc sc fs F A P r σ τ) (hP : P ≤ 4101) (hA : A + 1 ≤ A') (hAm : A' ≤ 3001) (hV : rd σ 15 19 = i32 V) (hV3 : V ≤ 3000) (hv : v < V) (h32 : rd σ 32 v = rd σ 62 5) (h33 : rd σ 33 v = i32 (sc.length + 1 : Nat)) (hl : sc.length < 40) (hn : ∀ u, u ∈ sc → rl σ 29 u ≠ rl σ 29 v) (ho : rd σ 31 v = ownF fs v) :
    ∃ S, S + 1 ≤ A' ∧ (∀ d, rn L xs (d + 1) 307 0 [.ref 123, .int (i32 v)] [] τ = some (.inl none, mOpen τ v sc.length S)) ∧ rd τ 123 42 = i32 S ∧ CORE K1 K2 m μ g fc (v :: sc) fs F A' P r (wr σ 62 5 (i32 v)) (mOpen τ v sc.length S) := by
  obtain ⟨V', S, c0, a5, a7, a8, hm, _⟩ := h.scS
  have hVV : V' = V := by
    have := (i32_inj (by omega) (by omega) (by omega) (by omega)).mp (a5.symm.trans hV)
    omega
  subst hVV
  obtain ⟨c1, c2, c3, c4, c5, c6, c7, c8⟩ := c0
  have hvs : v ∉ sc := fun q => hn v q rfl
  refine ⟨S, by omega, fun d => ?_, c8, ?_⟩
  · rw [e307_0, c3, c8, c_in (by omega) (by omega) (by omega), c_in (by omega) (by omega) (by omega), i32_n1, i32_n1, c_in (by omega) (by omega) (by omega), c_in (by omega) (by omega) (by omega), i32_ixn (by omega), i32_ixn (by omega), i32_ixn (by omega)]
    rfl
  obtain ⟨z1, z2, z3⟩ := mOpen_123 (τ := τ) (v := v) (len := sc.length) (S := S)
  have har := fun i => mOpen_ar (τ := τ) (v := v) (len := sc.length) (S := S) i
  refine h.scope hP (by omega) (fun j i hj => by rw [rd_wr, if_neg hj]) rfl (fun j i h1 h2 => mOpen_oth h1 h2) (fun V1 S1 k0 k1 k2 k3 => ?_) (fun hs => ?_) (fun hw u hu => ?_)
  · have e1 : V1 = V' := by
      have := (i32_inj (by omega) (by omega) (by omega) (by omega)).mp (k1.symm.trans a5)
      omega
    have e2 : S1 = S := by
      have := (i32_inj (by omega) (by omega) (by omega) (by omega)).mp (k0.2.2.2.2.2.2.2.symm.trans c8)
      omega
    subst e1
    subst e2
    have h149 : ∀ s, s ≤ S1 → rd (mOpen τ v sc.length S1) 149 s = rd τ 149 s ∧ rd (mOpen τ v sc.length S1) 150 s = rd τ 150 s := fun s hs => ⟨by rw [(har s).2.2.1, if_neg (by omega)], by rw [(har s).2.2.2, if_neg (by omega)]⟩
    refine ⟨S1 + 1, Nat.le_succ _, by omega, ⟨?_, ?_, z1, hl, fun k hk => ?_, fun u hu => ?_, fun u w hu hw e => ?_, z2⟩, h149⟩
    · rw [wr_self]
      refine ⟨rfl, by omega, (wr_nek (by omega)).trans h33, ?_⟩
      rw [wr_nek (by omega), h32]
      exact c1.congr _ _ (fun u _ => ⟨wr_nek (by omega), wr_nek (by omega)⟩)
    · rw [z3]
      refine ⟨S1 + 1, by omega, Nat.le_refl _, rfl, by rw [(har (S1 + 1)).2.2.1, if_pos rfl], ?_⟩
      rw [(har (S1 + 1)).2.2.2, if_pos rfl]
      exact c2.congr (Nat.le_succ S1) _ _ h149
    · have hk : k < sc.length + 1 := hk
      by_cases e : k = sc.length
      · rw [e, rev_getD_eq, (har sc.length).2.1, if_pos rfl, (har v).1, if_pos rfl]
        exact ⟨rfl, rfl⟩
      · have hmem := rev_getD_mem (l := sc) (k := k) (by omega)
        rw [rev_getD_lt (by omega), (har k).2.1, if_neg e, (har _).1, if_neg (fun q => hvs (by rw [← q]; exact hmem))]
        exact c5 k (by omega)
    · rcases List.mem_cons.mp hu with e | e
      · omega
      · exact c6 u e
    · have e : rl σ 29 u = rl σ 29 w := e
      rcases List.mem_cons.mp hu with e1 | e1 <;> rcases List.mem_cons.mp hw with e2 | e2
      · rw [e1, e2]
      · rw [e1] at e; exact absurd e.symm (hn w e2)
      · rw [e2] at e; exact absurd e (hn u e1)
      · exact c7 u w e1 e2 e
  · cases fs with
    | nil => trivial
    | cons e t =>
      obtain ⟨⟨u, hu⟩, hs⟩ := hs
      exact ⟨⟨v :: u, by rw [hu]; rfl⟩, hs⟩
  · rcases List.mem_cons.mp hu with e | e
    · rw [e]; exact ho
    · exact hw u e
theorem CORE.close {v : Nat} {x : Int32} (h : CORE K1 K2 m μ g fc (v :: sc) fs F A P r σ τ) (hP : P ≤ 4101) (hA : A ≤ m) (hs : sufF sc fs) (hx : chC σ sc x) :
    ∃ s : Nat, rd τ 123 43 = i32 s ∧ s < 3003 ∧ rd τ 123 40 = i32 (sc.length + 1 : Nat) ∧ sc.length < 40 ∧ (1 ≤ s ∧ s < 3003) ∧ s ≤ ix (rd τ 123 42) ∧ CORE K1 K2 m μ g fc sc fs F A P r (wr σ 62 5 x) (wr (wr τ 123 40 (i32 sc.length)) 123 43 (rd τ 150 s)) := by
  obtain ⟨V, S, c0, a5, a7, a8, hm, _⟩ := h.scS
  obtain ⟨c1, ⟨s, g1, g2, g3, g4, g5⟩, c3, c4, c5, c6, c7, c8⟩ := c0
  have c4 : sc.length + 1 ≤ 40 := c4
  refine ⟨s, g3, by omega, c3, by omega, ⟨g1, by omega⟩, by rw [c8, i32_ixn (by omega)]; exact g2, h.scope hP (Nat.le_refl _) (fun j i hj => by rw [rd_wr, if_neg hj]) rfl (fun j i h1 h2 => by rw [rd_wr, if_neg (by omega), rd_wr, if_neg (by omega)]) (fun V1 S1 k0 k1 k2 k3 => ?_) (fun _ => hs) (fun hw u hu => hw u (List.mem_cons_of_mem _ hu))⟩
  have e2 : S1 = S := by
    have := (i32_inj (by omega) (by omega) (by omega) (by omega)).mp (k0.2.2.2.2.2.2.2.symm.trans c8)
    omega
  subst e2
  obtain ⟨k01, k02, k03, k04, k05, k06, k07, k08⟩ := k0
  have h149 : ∀ j i, j ≠ 123 → rd (wr (wr τ 123 40 (i32 sc.length)) 123 43 (rd τ 150 s)) j i = rd τ j i := fun j i hj => by rw [wr_nek hj, wr_nek hj]
  refine ⟨S1, Nat.le_refl _, k3, ⟨?_, ?_, ?_, by omega, fun k hk => ?_, fun u hu => k06 u (List.mem_cons_of_mem _ hu), fun u w hu hw e => k07 u w (List.mem_cons_of_mem _ hu) (List.mem_cons_of_mem _ hw) e, ?_⟩, fun i _ => ⟨h149 149 i (by omega), h149 150 i (by omega)⟩⟩
  · rw [wr_self]
    exact hx.congr _ _ (fun u _ => ⟨wr_nek (by omega), wr_nek (by omega)⟩)
  · rw [wr_self]
    exact g5.congr (Nat.le_refl _) _ _ (fun i _ => ⟨h149 149 i (by omega), h149 150 i (by omega)⟩)
  · rw [rd_wr, if_neg (by omega), wr_self]
  · have := k05 k (show k < sc.length + 1 by omega)
    rw [rev_getD_lt hk] at this
    rw [h149 148 _ (by omega), h149 147 _ (by omega)]
    exact this
  · rw [rd_wr, if_neg (by omega), rd_wr, if_neg (by omega)]; exact c8
theorem close_step {s len : Nat} {x1 : Int32} {k : Nat} (h1 : rd τ 123 43 = i32 s) (hs : s < 3003) (h2 : rd τ 123 40 = i32 (len + 1 : Nat)) {w : Nat} (hx : x1 = i32 w) (hk : k < w) (hw : w < 10) (d : Nat) : rn L xs (d + 1) 328 2 [.ref 123, .int x1, .int (i32 k)] [] τ = rn L xs (d + 1) 328 2 [.ref 123, .int x1, .int (i32 (k + 1 : Nat))] [] (wr (wr τ 123 40 (i32 len)) 123 43 (rd τ 150 s)) := by
  rw [e328_2, hx, c2_ge (by omega) (by omega) (by omega) (by omega), c_f (by omega), h1, c_in (by omega) (by omega) (by omega), i32_ixn (by omega), h2, i32_s1 (by omega), i32_n1]
  rfl
theorem close_end {x1 : Int32} {w : Nat} (hx : x1 = i32 w) (hw : w < 10) (d : Nat) : rn L xs (d + 1) 328 2 [.ref 123, .int x1, .int (i32 w)] [] τ = some (.inl none, τ) := by
  rw [e328_2, hx, c2_ge (by omega) (by omega) (by omega) (by omega), c_t (by omega), e328_36]
/-! a fn begins -/
theorem cFn_oth {j i : Nat} (h1 : ¬ (j = 15 ∧ i = 26)) (h2 : ¬ (j = 62 ∧ i = 6)) (h3 : ¬ (i = F ∧ (j = 34 ∨ 37 ≤ j ∧ j ≤ 39))) : rd (cFn σ F) j i = rd σ j i := by
  unfold cFn
  rw [rd_wr, if_neg (by omega), rd_wr, if_neg (by omega), rd_wr, if_neg (by omega), rd_wr, if_neg (by omega), rd_wr, if_neg (by omega), rd_wr, if_neg (by omega)]
theorem cFn_at : rd (cFn σ F) 15 26 = i32 (F + 1 : Nat) ∧ rd (cFn σ F) 34 F = rd σ 62 6 ∧ rd (cFn σ F) 37 F = i32 (-1) ∧ rd (cFn σ F) 38 F = i32 (-1) ∧ rd (cFn σ F) 39 F = 0 ∧ rd (cFn σ F) 62 6 = i32 F := by
  unfold cFn
  refine ⟨?_, ?_, ?_, ?_, ?_, ?_⟩
  · rw [wr_nek (by omega), wr_nek (by omega), wr_nek (by omega), wr_nek (by omega), wr_nek (by omega), wr_self]
  · rw [wr_nek (by omega), wr_nek (by omega), wr_nek (by omega), wr_nek (by omega), wr_self]
  · rw [wr_nek (by omega), wr_nek (by omega), wr_nek (by omega), wr_self]
  · rw [wr_nek (by omega), wr_nek (by omega), wr_self]
  · rw [wr_nek (by omega), wr_self]
  · rw [wr_self]
theorem sumC_congr {cp cp' : Nat → List (Nat × Nat)} : ∀ F, (∀ f, f < F → cp' f = cp f) → sumC cp' F = sumC cp F := by
  intro F
  induction F with
  | zero => intro _; rfl
  | succ F ih =>
    intro h
    show sumC cp' F + (cp' F).length = sumC cp F + (cp F).length
    rw [ih (fun f hf => h f (by omega)), h F (by omega)]
theorem CORE.addfn (h : CORE K1 K2 m μ g fc sc fs F A P r σ τ) (hP : P ≤ 4101) (hF : F < 4101) : CORE K1 K2 m μ g fc sc ((F, P, sc) :: fs) (F + 1) A P r (cFn σ F) τ := by
  obtain ⟨V, S, C, q, cp, a1, a2, ⟨a3, a4⟩, ⟨a5, a6, a7, a8⟩, a9, ⟨a10, a11⟩, a12, a13, a14, a15, a16, a17, ⟨x1, x2, x3, x4, x5⟩, b2, b3, b4, b5, b6, b7, b8, b9⟩ := h
  obtain ⟨y1, y2, y3, y4, y5, y6⟩ := cFn_at (σ := σ) (F := F)
  have hc : ∀ j i, ¬ (j = 15 ∧ i = 26) → ¬ (j = 62 ∧ i = 6) → ¬ (i = F ∧ (j = 34 ∨ 37 ≤ j ∧ j ≤ 39)) → rd (cFn σ F) j i = rd σ j i := fun j i h1 h2 h3 => cFn_oth h1 h2 h3
  have h2 : (cFn σ F).2 = σ.2 := rfl
  generalize cFn σ F = σ' at *
  have hr : ∀ j i, rl σ' j i = rl σ j i := fun j i => by unfold rl; rw [h2]
  have hln : ∀ j, ln σ' j = ln σ j := fun j => by unfold ln; rw [h2]
  have hrm : rm σ' = rm σ := by unfold rm; rw [h2]
  obtain ⟨l1, l2⟩ := a1.congr (σ' := σ') (τ' := τ) (fun j hj i => by have := inL3 hj; exact hc j i (by omega) (by omega) (by omega)) (fun i => hr _ _) (fun j hj i => rfl)
  have hcp : ∀ f, f < F → (fun f => if f = F then [] else cp f) f = cp f := fun f hf => if_neg (by omega)
  have hcF : (fun f => if f = F then [] else cp f) F = ([] : List (Nat × Nat)) := if_pos rfl
  have hnF : F ∉ fs.map Prod.fst := fun q => by
    obtain ⟨e, he, e1⟩ := List.mem_map.mp q
    have := (b5 e he).1
    omega
  refine ⟨V, S, C, q, (fun f => if f = F then [] else cp f), l1, l2.trans a2, ⟨(hc 15 13 (by omega) (by omega) (by omega)).trans a3, a4⟩, ⟨(hc 15 19 (by omega) (by omega) (by omega)).trans a5, a6, a7, a8⟩, y1, ⟨a10, a11⟩, a12,
    a13.congr l2 (hc 62 7 (by omega) (by omega) (by omega)) (hc 15 38 (by omega) (by omega) (by omega)) (fun i => hc 44 i (by omega) (by omega) (by omega)) (fun i => hr _ _) (fun i => hr _ _) (fun i hi => rfl) (fun j hj i => rfl),
    a14.congr l2 (fun u hu => ⟨hc 30 u (by omega) (by omega) (by omega), hr _ _, rfl, rfl⟩) (fun i => hr _ _) (fun i => rfl),
    a15.congr (hc 62 5 (by omega) (by omega) (by omega)) (fun v hv => ⟨hc 32 v (by omega) (by omega) (by omega), hc 33 v (by omega) (by omega) (by omega), hr _ _, rfl⟩) (fun i hi => rfl) (fun j hj i _ => rfl) (fun i _ => rfl),
    fun p hp => ?_, ?_, ⟨(hc 15 29 (by omega) (by omega) (by omega)).trans x1, by rw [hln]; exact x2, ?_, fun f hf => ?_, fun f f' q q' hf hf' hq hq' e => ?_⟩, ?_, ⟨⟨[], rfl⟩, b3⟩, ?_, fun e he => ?_, fun v hv => ?_, fun f hf q hq => ?_, fun p hp hk => ?_, fun f hf => ?_⟩
  · exact (a16 p hp).stay (by omega) (fun j i _ _ _ _ _ _ => hc j i (by omega) (by omega) (by omega)) (fun j i _ _ _ => hc j i (by omega) (by omega) (by omega)) (fun e => by rw [hc 24 p (by omega) (by omega) (by omega)]; exact e) (fun _ f _ _ _ => ⟨hc 35 f (by omega) (by omega) (by omega), hc 36 f (by omega) (by omega) (by omega)⟩)
      (fun l y hy => hy.congr (by rw [hc 15 19 (by omega) (by omega) (by omega)]; exact Nat.le_refl _) (fun v hv => ⟨hc 33 v (by omega) (by omega) (by omega), hc 32 v (by omega) (by omega) (by omega)⟩)) (fun v hv => hc 31 v (by omega) (by omega) (by omega)) (fun _ f _ _ => ⟨hc 44 f (by omega) (by omega) (by omega), hc 46 f (by omega) (by omega) (by omega)⟩) (by rw [hc 15 38 (by omega) (by omega) (by omega)]; exact Nat.le_refl _) (by rw [hc 15 19 (by omega) (by omega) (by omega)]; exact Nat.le_refl _)
      (fun l y hy => hy) (fun j _ _ _ => rfl) (fun i _ => rfl) (Nat.le_refl _)
  · unfold roomC at a17 ⊢
    rw [hln, hln, hrm]
    exact a17
  · show C ≤ sumC _ F + _
    rw [sumC_congr F hcp]
    omega
  · by_cases e : f = F
    · subst e
      rw [hcF]
      exact ⟨y3, y4, y5, Nat.zero_le _, (fun q hq => by cases hq), List.nodup_nil, List.nodup_nil⟩
    · rw [hcp f (by omega)]
      obtain ⟨d1, d2, d3, d4⟩ := x4 f (by omega)
      exact ⟨by rw [hc 37 f (by omega) (by omega) (by omega)]; exact d1.congr _ _ (fun q _ => ⟨hc 40 q.1 (by omega) (by omega) (by omega), hc 41 q.1 (by omega) (by omega) (by omega)⟩), (hc 38 f (by omega) (by omega) (by omega)).trans d2, (hc 39 f (by omega) (by omega) (by omega)).trans d3, d4⟩
  · by_cases e1 : f = F
    · rw [e1, hcF] at hq; cases hq
    · by_cases e2 : f' = F
      · rw [e2, hcF] at hq'; cases hq'
      · rw [hcp f (by omega)] at hq
        rw [hcp f' (by omega)] at hq'
        exact x5 f f' q q' (by omega) (by omega) hq hq' e
  · rw [y6]
    refine ⟨rfl, hF, ?_⟩
    rw [y2]
    exact b2.congr _ _ (fun e he => hc 34 e.1 (by omega) (by omega) (fun q => by have := (b5 e he).1; omega))
  · rw [List.map_cons, List.nodup_cons]
    exact ⟨hnF, b4⟩
  · rcases List.mem_cons.mp he with e1 | e1
    · rw [e1]
      refine ⟨Nat.lt_succ_self _, Nat.le_refl _, a15.2.2.2.1, ?_⟩
      show List.map Prod.snd ((fun f => if f = F then [] else cp f) F) = capW σ' P (P - P) sc
      rw [hcF, Nat.sub_self]
      rfl
    · obtain ⟨d1, d2, d3, d4⟩ := b5 e e1
      refine ⟨by omega, d2, d3, ?_⟩
      rw [hcp e.1 d1, d4, capW.congr _ (fun i _ => ⟨hc 16 i (by omega) (by omega) (by omega), hc 27 i (by omega) (by omega) (by omega)⟩)]
  · rw [hc 31 v (by omega) (by omega) (by omega)]
    show _ = if v ∈ sc then ownF fs v else _
    rw [if_pos hv]
    exact b6 v hv
  · by_cases e : f = F
    · rw [e, hcF] at hq; cases hq
    · rw [hcp f (by omega)] at hq
      exact b7 f (by omega) q hq
  · rw [hc 16 p (by omega) (by omega) (by omega)] at hk
    obtain ⟨f, s, l, d1, d2, d3, d4, d5, d6, d7⟩ := b8 p hp hk
    refine ⟨f, s, l, (hc 27 p (by omega) (by omega) (by omega)).trans d1, by omega, ?_, (hc 26 p (by omega) (by omega) (by omega)).trans d4, d5, by rw [hc 28 p (by omega) (by omega) (by omega)]; exact d6.congr _ _ (fun u _ => ⟨hc 33 u (by omega) (by omega) (by omega), hc 32 u (by omega) (by omega) (by omega)⟩), by rw [hcp f d2, d7, capW.congr _ (fun i _ => ⟨hc 16 i (by omega) (by omega) (by omega), hc 27 i (by omega) (by omega) (by omega)⟩)]⟩
    rw [List.map_cons]
    intro q
    rcases List.mem_cons.mp q with e | e
    · have e : f = F := e
      omega
    · exact d3 e
  · by_cases e : f = F
    · exact Or.inl (by rw [e]; exact List.mem_cons_self)
    · rcases b9 f (by omega) with e | ⟨p, d1, d2, d3, d4⟩
      · exact Or.inl (List.mem_cons_of_mem _ e)
      · exact Or.inr ⟨p, d1, (hc 16 p (by omega) (by omega) (by omega)).trans d2, (hc 27 p (by omega) (by omega) (by omega)).trans d3, (hc 35 f (by omega) (by omega) (by omega)).trans d4⟩
/-! a fn ends -/
theorem CAPI.fnend {f P0 C : Nat} {cp : Nat → List (Nat × Nat)} (h : CAPI F C P cp sc ((f, P0, sc) :: fs) σ) (hF : F ≤ 4101) (hf : f < F) (hP0 : P0 ≤ P) (n2 : rd σ' 16 P = i32 17) (n27 : rd σ' 27 P = i32 f) (n26 : rd σ' 26 P = i32 P0) (n28 : chC σ sc (rd σ' 28 P)) (n35 : rd σ' 35 f = i32 P) (n6 : OPN σ fs (rd σ' 62 6))
    (hC : ∀ j i, ¬ (i = P ∧ 16 ≤ j ∧ j ≤ 28) → ¬ (23 ≤ j ∧ j ≤ 25) → ¬ (j = 15 ∧ i = 13) → ¬ (i = f ∧ (j = 35 ∨ j = 36)) → ¬ (j = 62 ∧ i = 6) → scC j i = false → rd σ' j i = rd σ j i) (hl : σ'.2 = σ.2) : CAPI F C (P + 1) cp sc fs σ' := by
  obtain ⟨b1, b2, b3, b4, b5, b6, b7, b8, b9⟩ := h
  rw [List.map_cons, List.nodup_cons] at b4
  have hn : ∀ x : Nat, x ≤ 20 → 17 ≠ x → rd σ' 16 P ≠ i32 x := fun x hx hne e => hne (by
    have := (i32_inj (by omega) (by omega) (by omega) (by omega)).mp ((show i32 ((17 : Nat) : Int) = rd σ' 16 P from n2.symm).trans e)
    omega)
  have hc : ∀ j i, i < P → ¬ (23 ≤ j ∧ j ≤ 25) → 16 ≤ j → j ≤ 28 → rd σ' j i = rd σ j i := fun j i h1 h2 h3 h4 => hC j i (by omega) h2 (by omega) (by omega) (by omega) (scC_lo (by omega))
  have hw : ∀ p0 k l, p0 + k ≤ P → capW σ' p0 k l = capW σ p0 k l := fun p0 k l hk => capW.congr _ (fun i hi => ⟨hc 16 i (by omega) (by omega) (by omega) (by omega), hc 27 i (by omega) (by omega) (by omega) (by omega)⟩)
  have hch : ∀ l x, chC σ l x → chC σ' l x := fun l x hx => hx.congr _ _ (fun v _ => ⟨hC 33 v (by omega) (by omega) (by omega) (by omega) (by omega) rfl, hC 32 v (by omega) (by omega) (by omega) (by omega) (by omega) rfl⟩)
  refine ⟨b1.congr (fun j _ _ i => hC j i (by omega) (by omega) (by omega) (by omega) (by omega) (scC_lo (by omega))) (hC 15 29 (by omega) (by omega) (by omega) (by omega) (by omega) rfl) (by unfold ln; rw [hl]), ?_, b3.2, b4.2, fun e he => ?_, fun v hv => ?_, b7, fun p hp hk => ?_, fun f' hf' => ?_⟩
  · exact n6.congr _ _ (fun e _ => hC 34 e.1 (by omega) (by omega) (by omega) (by omega) (by omega) rfl)
  · obtain ⟨c1, c2, c3, c4⟩ := b5 e (List.mem_cons_of_mem _ he)
    refine ⟨c1, by omega, c3, ?_⟩
    rw [c4, show P + 1 - e.2.1 = (P - e.2.1) + 1 by omega]
    show _ = if rd σ' 16 (e.2.1 + (P - e.2.1)) = i32 2 ∧ _ then _ else _
    rw [show e.2.1 + (P - e.2.1) = P by omega, if_neg (fun q => hn 2 (by omega) (by omega) q.1), hw _ _ _ (by omega)]
  · rw [hC 31 v (by omega) (by omega) (by omega) (by omega) (by omega) rfl]
    have := b6 v hv
    rw [show ownF ((f, P0, sc) :: fs) v = if v ∈ sc then ownF fs v else i32 f from rfl, if_pos hv] at this
    exact this
  · by_cases e : p = P
    · subst e
      refine ⟨f, P0, sc, n27, hf, b4.1, n26, hP0, hch _ _ n28, ?_⟩
      have := (b5 (f, P0, sc) List.mem_cons_self).2.2.2
      rw [hw _ _ _ (by omega)]
      exact this
    · have hp' : p < P := by omega
      rw [hc 16 p hp' (by omega) (by omega) (by omega)] at hk
      obtain ⟨f', s, l, c1, c2, c3, c4, c5, c6, c7⟩ := b8 p hp' hk
      exact ⟨f', s, l, by rw [hc 27 p hp' (by omega) (by omega) (by omega)]; exact c1, c2, fun q => c3 (List.mem_cons_of_mem _ q), by rw [hc 26 p hp' (by omega) (by omega) (by omega)]; exact c4, c5, by rw [hc 28 p hp' (by omega) (by omega) (by omega)]; exact hch _ _ c6, by rw [c7, hw _ _ _ (by omega)]⟩
  · rcases b9 f' hf' with e | ⟨p, c1, c2, c3, c4⟩
    · rw [List.map_cons] at e
      rcases List.mem_cons.mp e with e | e
      · have e : f' = f := e
        subst e
        exact Or.inr ⟨P, Nat.lt_succ_self _, n2, n27, n35⟩
      · exact Or.inl e
    · by_cases e : f' = f
      · subst e
        obtain ⟨f2, s, l, d1, d2, d3, _⟩ := b8 p c1 c2
        have : f2 = f' := by
          have h1 := b1
          have := (i32_inj (by omega) (by omega) (by omega) (by omega)).mp (d1.symm.trans c3)
          omega
        subst this
        exact absurd List.mem_cons_self d3
      · exact Or.inr ⟨p, by omega, by rw [hc 16 p c1 (by omega) (by omega) (by omega)]; exact c2, by rw [hc 27 p c1 (by omega) (by omega) (by omega)]; exact c3, by rw [hC 35 f' (by omega) (by omega) (by omega) (by omega) (by omega) rfl]; exact c4⟩
end SCOPE
