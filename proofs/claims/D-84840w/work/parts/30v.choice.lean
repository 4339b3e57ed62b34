/-! READING: choices; variables that wait for their scope -/
section CHOICE
variable {L : Nat} {xs : Nat → Int32} {K1 K2 m : Nat} {μ : Nat → Nat} {g fc : Nat} {sc : List Nat} {fs fs' : List (Nat × Nat × List Nat)} {F D H n A P r r0 : Nat} {σ τ σ' τ' σ1 τ1 : tvS}
theorem ST.s6 (h : ST K1 K2 m μ g fc sc fs D H n A P r σ τ) {sc' : List Nat} {D' H' n' A' P' r' : Nat} (h' : ST K1 K2 m μ g fc sc' fs D' H' n' A' P' r' σ' τ') : rd σ' 62 6 = rd σ 62 6 := by
  obtain ⟨F, ⟨hc, _, _⟩, _⟩ := h
  obtain ⟨F', ⟨hc', _, _⟩, _⟩ := h'
  obtain ⟨V, S, C, q, cp, a1, a2, a3, a5, a9, a10, a12, a13, a14, a15, a16, a17, b1, b2, _⟩ := hc
  obtain ⟨V', S', C', q', cp', c1, c2, c3, c5, c9, c10, c12, c13, c14, c15, c16, c17, d1, d2, _⟩ := hc'
  exact OPN.det _ _ _ d2 b2
theorem ST.mem19 (h : ST K1 K2 m μ g fc sc fs D H n A P r σ τ) : ∀ u, u ∈ sc → u < ix (rd σ 15 19) := by
  obtain ⟨F, V, S, c1, c2, c3, c4, c5, c6, c7, c8⟩ := h.core
  have := h.all.1.1
  have hA := h.all.2.2.2.2.2.2.1.2.2.2.2.2.2.2.1
  intro u hu
  rw [c7, i32_ixn (by omega)]
  exact c4.2.2.2.2.2.1 u hu
theorem ST.ohO (h : ST K1 K2 m μ g fc sc fs D H n A P r σ τ) {sc' : List Nat} {D' H' n' A' P' r' : Nat} (h' : ST K1 K2 m μ g fc sc' fs D' H' n' A' P' r' σ' τ') {E : List Nat} {n0 r0 H0 P0 : Nat} (ho : OLDe E n0 r0 H0 P0 σ τ σ' τ') : rd σ' 62 6 = ohl σ' sc := by
  rw [h.s6 h']
  have hm := h.mem19
  obtain ⟨F, _, _, hO, _⟩ := h
  rw [hO]
  cases sc with
  | nil => rfl
  | cons u t => exact ((ho.2.2.2.2.1 u (hm u List.mem_cons_self)).2.1).symm
theorem ST.suf (h : ST K1 K2 m μ g fc sc fs D H n A P r σ τ) : sufF sc fs := by
  obtain ⟨F, ⟨hc, _, _⟩, _⟩ := h
  obtain ⟨V, S, C, q, cp, a1, a2, a3, a5, a9, a10, a12, a13, a14, a15, a16, a17, b1, b2, b3, _⟩ := hc
  exact b3
theorem sufF_cons {v : Nat} (h : sufF sc fs) : sufF (v :: sc) fs := by
  cases fs with
  | nil => trivial
  | cons e t =>
    obtain ⟨⟨u, hu⟩, hs⟩ := h
    exact ⟨⟨v :: u, by rw [hu]; rfl⟩, hs⟩
theorem SLO.opn {v len S : Nat} (h : SLO τ) (hS : rd τ 123 42 = i32 S) (hS3 : S < 3003) (hv0 : V0f τ ≤ v) (hv3 : v < 4101) (hvV : v < ix (rd τ 123 36)) : SLO (mOpen τ v len S) := by
  obtain ⟨z1, z2, z3⟩ := mOpen_123 (τ := τ) (v := v) (len := len) (S := S)
  have har := fun i => mOpen_ar (τ := τ) (v := v) (len := len) (S := S) i
  have e1 : LOf (mOpen τ v len S) = LOf τ := by unfold LOf; rw [mOpen_oth (by omega) (by omega), mOpen_oth (by omega) (by omega)]
  have e2 : P0f (mOpen τ v len S) = P0f τ := by unfold P0f; rw [mOpen_oth (by omega) (by omega), mOpen_oth (by omega) (by omega)]
  have e3 : V0f (mOpen τ v len S) = V0f τ := by unfold V0f; rw [mOpen_oth (by omega) (by omega), mOpen_oth (by omega) (by omega)]
  obtain ⟨a1, a2, a3, a4, a5, a6, a7, a8⟩ := h
  rw [hS, i32_ixn (by omega)] at a2 a3 a6 a8
  unfold SLO VLO
  rw [e1, e2, e3, z2, z3, i32_ixn (by omega), mOpen_oth (by omega) (by omega), mOpen_oth (by omega) (by omega)]
  refine ⟨Or.inr (by rw [i32_ixn (by omega)]; exact a2), by omega, fun s b1 b2 => ?_, fun p b1 b2 => by rw [mOpen_oth (by omega) (by omega)]; exact a4 p b1 b2, a5, fun s b1 b2 => ?_, rfl, Nat.le_refl _⟩
  · rw [(har s).2.2.2]
    by_cases e : s = S + 1
    · rw [if_pos e]; exact a1
    · rw [if_neg e]; exact a3 s b1 (by omega)
  · rw [(har s).2.2.1, (har s).2.2.2]
    by_cases e : s = S + 1
    · rw [if_pos e, if_pos e]
      unfold scOK
      rw [i32_ixn (by omega)]
      exact ⟨hv0, hvV, rfl, a7, by omega⟩
    · rw [if_neg e, if_neg e]; exact a6 s b1 (by omega)
theorem SLO.close {s : Nat} {x : Int32} (h : SLO τ) (h1 : rd τ 123 43 = i32 s) (h2 : 1 ≤ s ∧ s < 3003) (h3 : s ≤ ix (rd τ 123 42)) : SLO (wr (wr τ 123 40 x) 123 43 (rd τ 150 s)) := by
  have hm0 : ∀ i, i ≠ 40 → i ≠ 43 → rd (wr (wr τ 123 40 x) 123 43 (rd τ 150 s)) 123 i = rd τ 123 i := fun i h1 h2 => by rw [rd_wr, if_neg (by omega), rd_wr, if_neg (by omega)]
  have hmj : ∀ j i, j ≠ 123 → rd (wr (wr τ 123 40 x) 123 43 (rd τ 150 s)) j i = rd τ j i := fun j i hj => by rw [wr_nek hj, wr_nek hj]
  have e1 : LOf (wr (wr τ 123 40 x) 123 43 (rd τ 150 s)) = LOf τ := by unfold LOf; rw [hm0 28 (by omega) (by omega), hmj 202 _ (by omega)]
  have e2 : P0f (wr (wr τ 123 40 x) 123 43 (rd τ 150 s)) = P0f τ := by unfold P0f; rw [hm0 28 (by omega) (by omega), hmj 143 _ (by omega)]
  have e3 : V0f (wr (wr τ 123 40 x) 123 43 (rd τ 150 s)) = V0f τ := by unfold V0f; rw [hm0 28 (by omega) (by omega), hmj 144 _ (by omega)]
  obtain ⟨a1, a2, a3, a4, a5, a6, a7, a8⟩ := h
  unfold SLO VLO
  rw [e1, e2, e3, hm0 36 (by omega) (by omega), hm0 42 (by omega) (by omega), hm0 46 (by omega) (by omega), wr_self]
  refine ⟨?_, a2, fun s b1 b2 => by rw [hmj 150 _ (by omega)]; exact a3 s b1 b2, fun p b1 b2 => by rw [hmj 160 _ (by omega)]; exact a4 p b1 b2, a5, fun s b1 b2 => by rw [hmj 149 _ (by omega), hmj 150 _ (by omega)]; exact a6 s b1 b2, ?_⟩
  · rw [h1] at a1
    rcases a1 with e | e
    · have := (i32_inj (b := 0) (by omega) (by omega) (by omega) (by omega)).mp e
      omega
    · rw [i32_ixn (by omega)] at e
      exact a3 s e h3
  · rw [h1] at a1
    rcases a1 with e | e
    · have := (i32_inj (b := 0) (by omega) (by omega) (by omega) (by omega)).mp e
      omega
    · rw [i32_ixn (by omega)] at e
      have k := a6 s e h3
      exact ⟨k.2.2.2.1, by have := k.2.2.2.2; omega⟩
theorem OLDe.x144 {E : List Nat} (h : OLDe E n r H P σ τ σ' τ') (i : Nat) : rd τ' 144 i = rd τ 144 i := h.2.2.2.2.2.2.2.1.2.2.1 144 (by omega) i
/-- the first variable of the function at hand -/
theorem CORE.v0 (h : CORE K1 K2 m μ g fc sc fs F A P r σ τ) : V0f τ = ix (rd τ 144 g) := by
  obtain ⟨V, S, c0, a5, a7, a8, hm, a6, ⟨b1, b2, b3, _⟩, a14⟩ := h.scS
  unfold V0f
  rw [b2, i32_ixn (by omega)]
theorem ST.v0 {V : Nat} (h : ST K1 K2 m μ g fc sc fs D H n A P r σ τ) (hV : rd σ 15 19 = i32 V) (hV3 : V < 5000) : ix (rd τ 144 g) ≤ V := by
  obtain ⟨F, ⟨hc, hs, hF1⟩, hF, hO, hPF, hZ⟩ := h
  have e := hc.v0
  obtain ⟨V', S, c0, a5, a7, a8, hm, a6, ⟨b1, b2, b3, _⟩, a14⟩ := hc.scS
  have e2 : rd τ 123 36 = i32 V := a6.trans (a5.symm.trans hV)
  have := hZ.2.2.2.2.1
  rw [e, e2, i32_ixn (by omega)] at this
  exact this
theorem own_new {F C : Nat} {cp : Nat → List (Nat × Nat)} (h : CAPI F C P cp sc fs σ) {v : Nat} (hv : v ∉ sc) : ownF fs v = rd σ 62 6 := by
  obtain ⟨b1, b2, b3, _⟩ := h
  cases fs with
  | nil => exact (show rd σ 62 6 = i32 (-1) from b2).symm
  | cons e t =>
    obtain ⟨⟨u, hu⟩, hs⟩ := b3
    show (if v ∈ e.2.2 then ownF t v else i32 e.1) = _
    rw [if_neg (fun q => hv (by rw [hu]; exact List.mem_append_right _ q)), b2.1]
/-- a variable that waits for its scope -/
def NV (v : Nat) (sc : List Nat) (x5 x6 : Int32) (σ : tvS) : Prop := v < ix (rd σ 15 19) ∧ rd σ 32 v = x5 ∧ rd σ 33 v = i32 (sc.length + 1 : Nat) ∧ rd σ 31 v = x6 ∧ sc.length < 40 ∧ (∀ u, u ∈ sc → rl σ 29 u ≠ rl σ 29 v) ∧ ∀ u, u ∈ sc → u < ix (rd σ 15 19)
theorem NV.old {E : List Nat} {v : Nat} {x5 x6 : Int32} (ho : OLDe E n r H P σ τ σ' τ') (h : NV v sc x5 x6 σ) : NV v sc x5 x6 σ' := by
  obtain ⟨a1, a2, a3, a4, a5, a6, a7⟩ := h
  obtain ⟨o1, o2, o3, o4, o5, o6, o7, _⟩ := ho
  obtain ⟨b1, b2, b3, b4⟩ := o5 v a1
  exact ⟨by omega, b3.trans a2, b4.trans a3, b2.trans a4, a5, fun u hu => by rw [(o5 u (a7 u hu)).1, b1]; exact a6 u hu, fun u hu => by have := a7 u hu; omega⟩
theorem vck_le {a : Nat} {l : List Nat} : vck σ a A g fc l ≤ 6 := by
  unfold vck
  split
  · omega
  · split
    · omega
    · split <;> omega
theorem vck_0 {a : Nat} {l : List Nat} (h : vck σ a A g fc l = 0) : a = 1 ∧ (∀ u, u ∈ l → rl σ 29 u ≠ rl σ 12 A) ∧ l.length ≠ 40 := by
  unfold vck at h
  by_cases q1 : a ≠ 1
  · rw [if_pos q1] at h; omega
  · rw [if_neg q1] at h
    by_cases q2 : (l.find? fun v => decide (rl σ 29 v = rl σ 12 A)) ≠ none ∨ fIx (fun f => decide (rl σ 42 f = rl σ 12 A)) (min (g + 1) fc) 0 ≠ none
    · rw [if_pos q2] at h; omega
    · rw [if_neg q2] at h
      by_cases q3 : l.length = 40
      · rw [if_pos q3] at h; omega
      · refine ⟨by omega, fun u hu e => ?_, q3⟩
        apply q2
        refine Or.inl (fun hn => ?_)
        have := List.find?_eq_none.mp hn u hu
        exact this (decide_eq_true e)
/-- a new variable, for both -/
theorem ST.cvarN (h : ST K1 K2 m μ g fc sc fs D H n A P r σ τ) : ∃ V : Nat, V ≤ A ∧ rd σ 15 19 = i32 V ∧
    (∀ d, rn L xs (d + 4) 116 0 [.ref 62, .int (rd σ 62 5), jv, jv] [] σ = if vck σ (μ A) A g fc sc = 0 then some (.inl (some (.int (i32 V))), cVar σ A V (rd σ 62 5) sc.length) else some (.inr (1016, (rm σ).1), cFlt σ (i32 (vck σ (μ A) A g fc sc)) (rd σ 13 A))) ∧
    (∀ d, rn L xs (d + 2) 306 0 [.ref 123, jv, jv] [] τ = if vck σ (μ A) A g fc sc = 0 then some (.inl (some (.int (i32 V))), mVar τ A V) else some (.inl (some (.int 0)), mFlt τ (i32 (vck σ (μ A) A g fc sc)) (rd τ 127 A))) ∧
    (vck σ (μ A) A g fc sc = 0 → A < m ∧ ST K1 K2 m μ g fc sc fs D H n (A + 1) P r (cVar σ A V (rd σ 62 5) sc.length) (mVar τ A V) ∧ NV V sc (rd σ 62 5) (rd σ 62 6) (cVar σ A V (rd σ 62 5) sc.length) ∧ OLDe [V] n r H P σ τ (cVar σ A V (rd σ 62 5) sc.length) (mVar τ A V)) := by
  obtain ⟨o1, o2, o3, o4, ⟨o5, o5'⟩, o6, ⟨s1, s2, s3, s4, s5, s6, s7, s8, s9, s10, s11, s12⟩, o8, o9, o10⟩ := h.all
  have hch := h.ch
  have hsa := h
  obtain ⟨F, ⟨hc, hs, hF1⟩, hF, hO, hPF, hZ⟩ := hsa
  obtain ⟨V, S, c0, a5, a7, a8, hm, a6, ⟨b1, b2, b3, b4, b5, b6, b7⟩, a14⟩ := hc.scS
  refine ⟨V, a7, a5, fun d => cvar_run o1 o2 s8 s1 hch c0.2.2.2.1 o4 b4 b1 b6.1 b3 a5 (by omega) d, fun d => ST_mvar_run o1 o2 s8 s2 o3 a14 c0 (by omega) b6 b5 b2 b3 a6 d, fun hv => ?_⟩
  obtain ⟨v1, v2, v3⟩ := vck_0 hv
  have hlt := h.lt (by omega)
  have hN := hc.newv (x := rd σ 62 5) (k := sc.length) (by omega) hlt v1 a5 (by omega)
  have hmem : ∀ v, v ∈ sc → v ≠ V := fun v hv e => by have := c0.2.2.2.2.2.1 v hv; omega
  obtain ⟨y1, y2, y3, y4, y5, y6⟩ := cVar_at (σ := σ) (A := A) (V := V) (x := rd σ 62 5) (k := sc.length)
  obtain ⟨z1, z2, z3, z4⟩ := mVar_at (τ := τ) (A := A) (V := V)
  have hw := wch_mono μ (show A ≤ A + 1 by omega)
  have hco : ∀ j i, ¬ (j = 62 ∧ i = 3) → ¬ (j = 15 ∧ i = 19) → ¬ (30 ≤ j ∧ j ≤ 33 ∧ i = V) → rd (cVar σ A V (rd σ 62 5) sc.length) j i = rd σ j i := fun j i h1 h2 h3 => cVar_oth h1 h2 h3
  have hmo : ∀ j i, ¬ (j = 123 ∧ (i = 36 ∨ i = 17)) → ¬ (145 ≤ j ∧ j ≤ 146 ∧ i = V) → rd (mVar τ A V) j i = rd τ j i := fun j i h1 h2 => mVar_oth h1 h2
  have hr : ∀ j i, ¬ (j = 29 ∧ i = V) → rl (cVar σ A V (rd σ 62 5) sc.length) j i = rl σ j i := fun j i h1 => by rw [cVar_rl, if_neg h1]
  have hrV : rl (cVar σ A V (rd σ 62 5) sc.length) 29 V = rl σ 12 A := by rw [cVar_rl, if_pos ⟨rfl, rfl⟩]
  have hx5 : ix (rd σ 15 19) = V := by rw [a5, i32_ixn (by omega)]
  generalize cVar σ A V (rd σ 62 5) sc.length = σ' at *
  generalize mVar τ A V = τ' at *
  have hx6 : ix (rd σ' 15 19) = V + 1 := by rw [y6, i32_ixn (by omega)]
  refine ⟨hlt, ⟨F, ⟨hN, ⟨y5, z4, (hco _ _ (by omega) (by omega) (by omega)).trans s3, (hmo _ _ (by omega) (by omega)).trans s4, (hco _ _ (by omega) (by omega) (by omega)).trans s5, (hmo _ _ (by omega) (by omega)).trans s6, (hmo _ _ (by omega) (by omega)).trans s7, hlt, s9, by omega, by omega, by omega⟩, by omega⟩, by omega, ?_, fun f hf => ?_, hZ.con (by rw [z3, a6, i32_ixn (by omega), i32_ixn (by omega)]; omega) (fun i hi => hmo 123 i (by omega) (by omega)) (fun j hj i => hmo j i (by omega) (by omega))⟩, ⟨by omega, y3, y4, y2, by have := c0.2.2.2.1; omega, fun u hu => ?_, fun u hu => by have := c0.2.2.2.2.2.1 u hu; omega⟩, ?_⟩
  · rw [hco 62 6 (by omega) (by omega) (by omega), hO]
    cases sc with
    | nil => rfl
    | cons v t => exact (hco 31 v (by omega) (by omega) (fun q => hmem v List.mem_cons_self q.2.2)).symm
  · obtain ⟨a, b1, b2⟩ := hPF f hf
    exact ⟨a, (hco 46 f (by omega) (by omega) (by omega)).trans b1, b2⟩
  · rw [hrV, hr 29 u (fun q => hmem u hu q.2)]; exact v2 u hu
  · refine ⟨fun i _ j _ _ => hmo j i (by omega) (by omega), fun i _ j _ _ => hmo j i (by omega) (by omega), fun i _ => hco 63 i (by omega) (by omega) (by omega), fun p _ j _ _ => hco j p (by omega) (by omega) (by omega), fun v hv => ⟨hr 29 v (by omega), hco 31 v (by omega) (by omega) (by omega), hco 32 v (by omega) (by omega) (by omega), hco 33 v (by omega) (by omega) (by omega)⟩, by omega, fun j hj i => hr j i (by omega), OLX.of (fun j i h => hco j i (by omega) (by omega) (by omega)) (fun j i h => hmo j i (by omega) (by omega)), ⟨by rw [hco 15 13 (by omega) (by omega) (by omega)]; exact Nat.le_refl _, fun p hp => ⟨hco 16 p (by omega) (by omega) (by omega), hco 27 p (by omega) (by omega) (by omega), hco 28 p (by omega) (by omega) (by omega)⟩⟩, ⟨by omega, fun v h1 h2 => Or.inl (by rw [show v = V by omega]; exact List.mem_cons_self)⟩, fun v hv => by rw [List.mem_singleton.mp hv]; omega, fun p v h1 h2 => by rw [hco 15 13 (by omega) (by omega) (by omega)] at h2; omega, fun p p' v h1 h2 => by rw [hco 15 13 (by omega) (by omega) (by omega)] at h2; omega⟩
/-- a scope is opened -/
theorem ST.opn {v A' : Nat} (h : ST K1 K2 m μ g fc sc fs D H n A P r σ τ) (hA : A + 1 ≤ A') (hAm : A' ≤ m) (hC : agC σ σ') (hM : agM τ τ') (e1 : rd σ' 62 3 = i32 A') (e2 : rd τ' 123 17 = i32 A') (e3 : rd σ' 62 4 = i32 D) (e4 : rd τ' 123 26 = i32 D) (e5 : rd σ' 62 11 = i32 H) {n' : Nat} (e6 : rd τ' 123 18 = i32 n') (hn' : n' ≤ 8 * A' + 20) (e7 : rd τ' 123 22 = i32 r) (hN : NV v sc (rd σ 62 5) (rd σ 62 6) σ) (hv0 : ix (rd τ 144 g) ≤ v) :
    ∃ S, (∀ d, rn L xs (d + 1) 307 0 [.ref 123, .int (i32 v)] [] τ' = some (.inl none, mOpen τ' v sc.length S)) ∧ (rd τ' 123 42 = i32 S ∧ S < 4000) ∧ ST K1 K2 m μ g fc (v :: sc) fs D H n' A' P r (wr σ' 62 5 (i32 v)) (mOpen τ' v sc.length S) := by
  obtain ⟨o1, o2, o3, o4, ⟨o5, o5'⟩, o6, ⟨s1, s2, s3, s4, s5, s6, s7, s8, s9, s10, s11, s12⟩, o8, o9, o10⟩ := h.all
  obtain ⟨F, ⟨hc, hs, hF1⟩, hF, hO, hPF, hZ⟩ := h
  obtain ⟨n1, n2, n3, n4, n5, n6, n7⟩ := hN
  obtain ⟨V, S0, c0, a5, a7, a8, hm, a6, _, a14⟩ := hc.scS
  have hx5 : ix (rd σ 15 19) = V := by rw [a5, i32_ixn (by omega)]
  have hvs : v ∉ sc := fun q => n6 v q rfl
  have hown : rd σ 31 v = ownF fs v := by
    obtain ⟨V', S', C, q, cp, _, _, _, _, _, _, _, _, _, _, _, _, hcap⟩ := hc
    rw [n4, own_new hcap hvs]
  have hc2 := hc.ag (by omega) hC hM (Nat.le_refl A)
  have hw := wch_mono μ (show A ≤ A' by omega)
  obtain ⟨S, k1, k2, k4, k3⟩ := hc2.opn (L := L) (xs := xs) (v := v) (V := V) (A' := A') (by omega) hA (by omega) ((hC.1 15 19 rfl).trans a5) (by omega) (by omega) (((hC.1 32 v rfl).trans n2).trans (hC.1 62 5 rfl).symm) ((hC.1 33 v rfl).trans n3) n5 (fun u hu => by unfold rl; rw [hC.2]; exact n6 u hu) ((hC.1 31 v rfl).trans hown)
  have hc0 : ∀ j i, ¬ (j = 62 ∧ i = 5) → rd (wr σ' 62 5 (i32 v)) j i = rd σ' j i := fun j i hj => by rw [rd_wr, if_neg hj]
  refine ⟨S, k2, ⟨k4, by omega⟩, F, ⟨k3, ⟨(hc0 _ _ (by omega)).trans e1, (mOpen_oth (by omega) (by omega)).trans e2, (hc0 _ _ (by omega)).trans e3, (mOpen_oth (by omega) (by omega)).trans e4, (hc0 _ _ (by omega)).trans e5, (mOpen_oth (by omega) (by omega)).trans e6, (mOpen_oth (by omega) (by omega)).trans e7, hAm, s9, by omega, hn', by omega⟩, by omega⟩, by omega, ?_, fun f hf => ?_, SLO.opn (hZ.congr (τ' := τ') (fun i hi => by rcases hi with e | e | e | e | e <;> rw [e] <;> exact hM 123 _ rfl) (fun j hj i => by rcases hj with e | e | e | e | e | e <;> rw [e] <;> exact hM _ i rfl)) k4 (by omega) (by rw [show V0f τ' = V0f τ from by unfold V0f; rw [hM 123 28 rfl, hM 144 _ rfl], hc.v0]; exact hv0) (by omega) (by rw [hM 123 36 rfl, a6, i32_ixn (by omega)]; omega)⟩
  · show rd (wr σ' 62 5 (i32 v)) 62 6 = rd (wr σ' 62 5 (i32 v)) 31 v
    rw [hc0 62 6 (by omega), hc0 31 v (by omega), hC.1 62 6 rfl, hC.1 31 v rfl, n4]
  · obtain ⟨a, b1, b2⟩ := hPF f hf
    exact ⟨a, (hc0 46 f (by omega)).trans ((hC.1 46 f rfl).trans b1), b2⟩
/-- a scope is closed -/
theorem ST.close {v : Nat} {x : Int32} (h : ST K1 K2 m μ g fc (v :: sc) fs D H n A P r σ τ) (hs : sufF sc fs) (hx : chC σ sc x) (hoh : rd σ 62 6 = ohl σ sc) :
    ∃ s : Nat, rd τ 123 43 = i32 s ∧ s < 3003 ∧ rd τ 123 40 = i32 (sc.length + 1 : Nat) ∧ sc.length < 40 ∧ ST K1 K2 m μ g fc sc fs D H n A P r (wr σ 62 5 x) (wr (wr τ 123 40 (i32 sc.length)) 123 43 (rd τ 150 s)) := by
  obtain ⟨o1, o2, o3, o4, ⟨o5, o5'⟩, o6, ⟨s1, s2, s3, s4, s5, s6, s7, s8, s9, s10, s11, s12⟩, o8, o9, o10⟩ := h.all
  obtain ⟨F, ⟨hc, _, hF1⟩, hF, hO, hPF, hZ⟩ := h
  obtain ⟨s, k1, k2, k3, k4, k6, k7, k5⟩ := hc.close (x := x) (by omega) s8 hs hx
  have hc0 : ∀ j i, ¬ (j = 62 ∧ i = 5) → rd (wr σ 62 5 x) j i = rd σ j i := fun j i hj => by rw [rd_wr, if_neg hj]
  have hm0 : ∀ i, i ≠ 40 → i ≠ 43 → rd (wr (wr τ 123 40 (i32 sc.length)) 123 43 (rd τ 150 s)) 123 i = rd τ 123 i := fun i h1 h2 => by rw [rd_wr, if_neg (by omega), rd_wr, if_neg (by omega)]
  refine ⟨s, k1, k2, k3, k4, F, ⟨k5, ⟨(hc0 _ _ (by omega)).trans s1, (hm0 _ (by omega) (by omega)).trans s2, (hc0 _ _ (by omega)).trans s3, (hm0 _ (by omega) (by omega)).trans s4, (hc0 _ _ (by omega)).trans s5, (hm0 _ (by omega) (by omega)).trans s6, (hm0 _ (by omega) (by omega)).trans s7, s8, s9, s10, s11, s12⟩, by omega⟩, by omega, ?_, fun f hf => ?_, hZ.close k1 k6 k7⟩
  · rw [hc0 62 6 (by omega), hoh]
    cases sc with
    | nil => rfl
    | cons u t => exact (hc0 31 u (by omega)).symm
  · obtain ⟨a, b1, b2⟩ := hPF f hf
    exact ⟨a, (hc0 46 f (by omega)).trans b1, b2⟩
/-- a lexeme that must stand here, a word of the model for it: all that changes -/
theorem lx_ok2 {k : Nat} {b : Int32} {R : tvR} (h : ST K1 K2 m μ g fc sc fs D H (n + 1) A P r σ τ) (hI : IT τ n 14 (i32 k) b) (hk : k ≤ 35) (hR : R = if μ A = k then some (.inl none, wr σ 62 3 (i32 (A + 1 : Nat))) else some (.inr (1016, (rm σ).1), cFlt σ 2 (rd σ 13 A))) :
    OUTV L xs K1 K2 τ R (fun σ' τ' => μ A = k ∧ A < m ∧ σ' = wr σ 62 3 (i32 (A + 1 : Nat)) ∧ τ' = wr (wr τ 123 18 (i32 n)) 123 17 (i32 (A + 1 : Nat))) := by
  obtain ⟨o1, o2, o3, o4, o5, o6, ⟨s1, s2, s3, s4, s5, s6, s7, s8, s9, s10, s11, s12⟩, o8, o9, o10⟩ := h.all
  have hpop := h.pop
  have hrun : ∀ dm, rn L xs (dm + 8) 310 304 [.ref 123, .int (i32 (14 : Nat)), .int (i32 k), .int b, jv] [] (wr τ 123 18 (i32 n)) = some (.inl none, if μ A = k then wr (wr τ 123 18 (i32 n)) 123 17 (i32 (A + 1 : Nat)) else mFlt (wr τ 123 18 (i32 n)) 2 (rd (wr τ 123 18 (i32 n)) 127 A)) := by
    intro dm
    by_cases q : μ A = k
    · have := hpop.take (L := L) (xs := xs) (k := k) rfl (by omega) (dm + 5)
      rw [if_pos q] at this
      rw [if_pos q, e310_304 (dm + 7), bI_ok this, e310_362]
    · have := hpop.take (L := L) (xs := xs) (k := k) rfl (by omega) (dm + 5)
      rw [if_neg q] at this
      rw [if_neg q, e310_304 (dm + 7), bI_ok this, e310_362]
  have hmS := nx s6 (by omega) o3 hI (pc := 304) (by decide +kernel) hrun
  by_cases q : μ A = k
  · rw [if_pos q] at hmS hR
    exact Or.inl ⟨_, _, hR, hmS, q, h.lt (by omega), rfl, rfl⟩
  · rw [if_neg q] at hmS hR
    exact Or.inr (FLT.mk' hpop s8 (by decide) hR hmS)
theorem choice_ok {B d : Nat} {τs : tvS} (hE : NT L xs K1 K2 m μ g fc 1 119 0 0 [jv] B) (h : ST K1 K2 m μ g fc sc fs D H n A P r σ τ) (hμ : μ A = 6) (hB : m - A ≤ B) (hn : n ≤ 8 * A + 1) (hd : 12 * (40 - D) + 20 + 10 ≤ d) (hs : ∀ τe, (∀ dm, rn L xs (dm + 7) 311 146 [.ref 123, .int (i32 A), jv] [] τ = some (.inl none, τe)) → mS L xs τs τe) :
    OUTI L xs K1 K2 τs (rn L xs d 121 0 [.ref 62, jv, jv, jv, jv, jv] [] σ) (NTQ K1 K2 m μ g fc sc fs D H n r A P σ τ) := by
  obtain ⟨d, rfl⟩ : ∃ d', d = d' + 5 := ⟨d - 5, by omega⟩
  obtain ⟨o1, o2, o3, o4, ⟨o5, o5'⟩, o6, ⟨s1, s2, s3, s4, s5, s6, s7, s8, s9, s10, s11, s12⟩, o8, o9, o10⟩ := h.all
  have hlt := h.lt (by omega)
  have hws := wch_succ μ A
  have hu : uch (μ A) = 1 := by rw [hμ]; rfl
  have h1 := h.at1 hlt
  have hmS : mS L xs τs (mPush (mPush (mPush (mPush (mPush (mPush (wr τ 123 17 (i32 (A + 1 : Nat))) n 25 (i32 A) 0) (n + 1) 1 0 0) (n + 2) 14 8 0) (n + 3) 1 0 0) (n + 4) 14 7 0) (n + 5) 1 0 0) := by
    refine hs _ (fun dm => ?_)
    rw [e311_146 (dm + 6), s2, i32_n1, bV_ok (mpush_ok (n := n) (by rw [rd_wr, if_neg (by omega)]; exact s6) (by omega) (dm + 5) _ _ _), bV_ok (mpush_ok (n := n + 1) mPush_come (by omega) (dm + 5) _ _ _), bV_ok (mpush_ok (n := n + 2) mPush_come (by omega) (dm + 5) _ _ _), bV_ok (mpush_ok (n := n + 3) mPush_come (by omega) (dm + 5) _ _ _), bV_ok (mpush_ok (n := n + 4) mPush_come (by omega) (dm + 5) _ _ _), bV_ok (mpush_ok (n := n + 5) mPush_come (by omega) (dm + 5) _ _ _), e311_357]
  refine OUTI.pre hmS ?_
  have h2 := (((((h1.push (by omega) 25 (i32 A) 0).push (by omega) 1 0 0).push (by omega) 14 8 0).push (by omega) 1 0 0).push (by omega) 14 7 0).push (by omega) 1 0 0
  have hold : OLD n r H P σ τ (wr σ 62 3 (i32 (A + 1 : Nat))) (mPush (mPush (mPush (mPush (mPush (mPush (wr τ 123 17 (i32 (A + 1 : Nat))) n 25 (i32 A) 0) (n + 1) 1 0 0) (n + 2) 14 8 0) (n + 3) 1 0 0) (n + 4) 14 7 0) (n + 5) 1 0 0) := (((((((OLD.refl.wrC (Or.inl rfl)).wrM (by omega)).push (by omega)).push (by omega)).push (by omega)).push (by omega)).push (by omega)).push (by omega)
  have i6 : IT (mPush (mPush (mPush (mPush (mPush (mPush (wr τ 123 17 (i32 (A + 1 : Nat))) n 25 (i32 A) 0) (n + 1) 1 0 0) (n + 2) 14 8 0) (n + 3) 1 0 0) (n + 4) 14 7 0) (n + 5) 1 0 0) (n + 5) 1 0 0 := IT.at rfl
  have i5 : IT (mPush (mPush (mPush (mPush (mPush (mPush (wr τ 123 17 (i32 (A + 1 : Nat))) n 25 (i32 A) 0) (n + 1) 1 0 0) (n + 2) 14 8 0) (n + 3) 1 0 0) (n + 4) 14 7 0) (n + 5) 1 0 0) (n + 4) 14 7 0 := (IT.at rfl).push (by omega)
  have i4 : IT (mPush (mPush (mPush (mPush (mPush (mPush (wr τ 123 17 (i32 (A + 1 : Nat))) n 25 (i32 A) 0) (n + 1) 1 0 0) (n + 2) 14 8 0) (n + 3) 1 0 0) (n + 4) 14 7 0) (n + 5) 1 0 0) (n + 3) 1 0 0 := ((IT.at rfl).push (by omega)).push (by omega)
  have i3 : IT (mPush (mPush (mPush (mPush (mPush (mPush (wr τ 123 17 (i32 (A + 1 : Nat))) n 25 (i32 A) 0) (n + 1) 1 0 0) (n + 2) 14 8 0) (n + 3) 1 0 0) (n + 4) 14 7 0) (n + 5) 1 0 0) (n + 2) 14 8 0 := (((IT.at rfl).push (by omega)).push (by omega)).push (by omega)
  have i2 : IT (mPush (mPush (mPush (mPush (mPush (mPush (wr τ 123 17 (i32 (A + 1 : Nat))) n 25 (i32 A) 0) (n + 1) 1 0 0) (n + 2) 14 8 0) (n + 3) 1 0 0) (n + 4) 14 7 0) (n + 5) 1 0 0) (n + 1) 1 0 0 := ((((IT.at rfl).push (by omega)).push (by omega)).push (by omega)).push (by omega)
  have i1 : IT (mPush (mPush (mPush (mPush (mPush (mPush (wr τ 123 17 (i32 (A + 1 : Nat))) n 25 (i32 A) 0) (n + 1) 1 0 0) (n + 2) 14 8 0) (n + 3) 1 0 0) (n + 4) 14 7 0) (n + 5) 1 0 0) n 25 (i32 A) 0 := (((((IT.at rfl).push (by omega)).push (by omega)).push (by omega)).push (by omega)).push (by omega)
  generalize mPush (mPush (mPush (mPush (mPush (mPush (wr τ 123 17 (i32 (A + 1 : Nat))) n 25 (i32 A) 0) (n + 1) 1 0 0) (n + 2) 14 8 0) (n + 3) 1 0 0) (n + 4) 14 7 0) (n + 5) 1 0 0 = τ2 at h2 hold i1 i2 i3 i4 i5 i6
  rw [e121_0 (d + 4), s1, i32_n1]
  generalize wr σ 62 3 (i32 (A + 1 : Nat)) = σ2 at h2 hold
  -- the first
  refine OUTI.bI (hE sc fs D H (n + 5) (A + 1) P r σ2 τ2 (d + 4) h2 i6.1 (by omega) (by omega) (by omega)) (fun a σ3 τ3 hQ => ?_)
  obtain ⟨A1, P1, y1, y2, ⟨t1, t2, t3, t4, t5, t6, t7, t8⟩, y4, y5, y6⟩ := hQ
  subst y1
  refine OUTV.bV (lx_ok (k := 7) y2 (IT.old y6 (by omega) i5) (by omega) (y2.mw (x := 4) (w := 4) rfl (by omega) (d + 1))) (fun σ4 τ4 hW => ?_)
  obtain ⟨b1, b2, b3, b4, b5⟩ := hW
  have hold4 : OLD (n + 4) r H P σ2 τ2 σ4 τ4 := (y6.mono (by omega) (Nat.le_refl _) (Nat.le_refl _) (Nat.le_refl _)).trans (b5.mono (Nat.le_refl _) (by omega) (Nat.le_refl _) (by omega)) (Nat.le_refl _) (Nat.le_refl _) (Nat.le_refl _) (Nat.le_refl _)
  have hws1 := wch_mono μ (show A1 ≤ A1 + 1 by omega)
  -- the second
  refine OUTI.bI (hE sc fs D H (n + 3) (A1 + 1) P1 (r + 1) σ4 τ4 (d + 4) b4 (IT.old hold4 (by omega) i4).1 (by omega) (by omega) (by omega)) (fun a σ5 τ5 hQ => ?_)
  obtain ⟨A2, P2, w1, w2, ⟨v1, v2, v3, v4, v5, v6, v7, v8⟩, w4, w5, w6⟩ := hQ
  subst w1
  have hold5 : OLD (n + 3) r H P σ2 τ2 σ5 τ5 := (hold4.mono (by omega) (Nat.le_refl _) (Nat.le_refl _) (Nat.le_refl _)).trans (w6.mono (Nat.le_refl _) (by omega) (Nat.le_refl _) (by omega)) (Nat.le_refl _) (Nat.le_refl _) (Nat.le_refl _) (Nat.le_refl _)
  refine OUTV.bV (lx_ok (k := 8) w2 (IT.old hold5 (by omega) i3) (by omega) (w2.mw (x := 5) (w := 5) rfl (by omega) (d + 1))) (fun σ6 τ6 hW => ?_)
  obtain ⟨c1, c2, c3, c4, c5⟩ := hW
  have hold6 : OLD (n + 2) r H P σ2 τ2 σ6 τ6 := (hold5.mono (by omega) (Nat.le_refl _) (Nat.le_refl _) (Nat.le_refl _)).trans (c5.mono (Nat.le_refl _) (by omega) (Nat.le_refl _) (by omega)) (Nat.le_refl _) (Nat.le_refl _) (Nat.le_refl _) (Nat.le_refl _)
  have hws2 := wch_mono μ (show A2 ≤ A2 + 1 by omega)
  -- the third
  refine OUTI.bI (hE sc fs D H (n + 1) (A2 + 1) P2 (r + 2) σ6 τ6 (d + 4) c4 (IT.old hold6 (by omega) i2).1 (by omega) (by omega) (by omega)) (fun a σ7 τ7 hQ => ?_)
  obtain ⟨A3, P3, x1, x2, ⟨z1, z2, z3, z4, z5, z6, z7, z8⟩, x4, x5, x6⟩ := hQ
  subst x1
  obtain ⟨p1, p2, p3, p4, ⟨p5, p5'⟩, p6, ⟨r1, r2, r3, r4, r5, r6, r7, r8, r9, r10, r11, r12⟩, p8, p9, p10⟩ := x2.all
  have hold7 : OLD (n + 1) r H P σ2 τ2 σ7 τ7 := (hold6.mono (by omega) (Nat.le_refl _) (Nat.le_refl _) (Nat.le_refl _)).trans (x6.mono (Nat.le_refl _) (by omega) (Nat.le_refl _) (by omega)) (Nat.le_refl _) (Nat.le_refl _) (Nat.le_refl _) (Nat.le_refl _)
  have g35 : OLD (n + 1) (r + 1) H P1 σ3 τ3 σ7 τ7 := (b5.mono (by omega) (Nat.le_refl _) (Nat.le_refl _) (Nat.le_refl _)).trans ((w6.mono (by omega) (Nat.le_refl _) (Nat.le_refl _) (Nat.le_refl _)).trans ((c5.mono (by omega) (by omega) (Nat.le_refl _) (by omega)).trans (x6.mono (Nat.le_refl _) (by omega) (Nat.le_refl _) (by omega)) (Nat.le_refl _) (Nat.le_refl _) (Nat.le_refl _) (Nat.le_refl _)) (Nat.le_refl _) (Nat.le_refl _) (Nat.le_refl _) (Nat.le_refl _)) (Nat.le_refl _) (Nat.le_refl _) (Nat.le_refl _) (Nat.le_refl _)
  have g57 : OLD (n + 1) (r + 2) H P2 σ5 τ5 σ7 τ7 := (c5.mono (by omega) (Nat.le_refl _) (Nat.le_refl _) (Nat.le_refl _)).trans (x6.mono (Nat.le_refl _) (Nat.le_refl _) (Nat.le_refl _) (Nat.le_refl _)) (Nat.le_refl _) (Nat.le_refl _) (Nat.le_refl _) (Nat.le_refl _)
  have T1 := t8.old g35 (by omega) (y2.s5 x2)
  have T2 := v8.old g57 (by omega) (w2.s5 x2)
  have q1 : rd τ7 135 r = i32 (P1 - 1 : Nat) := (g35.2.1 r (by omega) 135 (by omega) (by omega)).trans t5
  have q2 : rd τ7 135 (r + 1) = i32 (P2 - 1 : Nat) := (g57.2.1 (r + 1) (by omega) 135 (by omega) (by omega)).trans v5
  have hpop := x2.pop
  have hk : contK σ7 P [P1 - 1, P2 - 1, P3 - 1] P3 := ⟨T1.2.1, T1.1, by omega, by rw [show P1 - 1 + 1 = P1 by omega]; exact T2.2.1, by rw [show P1 - 1 + 1 = P1 by omega]; exact T2.1, by omega, by rw [show P2 - 1 + 1 = P2 by omega]; exact z8.2.1, by rw [show P2 - 1 + 1 = P2 by omega]; exact z8.1, by omega, by show P3 - 1 + 1 = P3; omega⟩
  have hB1 := T1.1
  have hB2 := T2.1
  have hB3 := z8.1
  obtain ⟨σ8, nC, hrun⟩ := pad3 (L := L) (xs := xs) (σ := σ7) (κ := 18) (x := 18) (P := P3) (c1 := P1 - 1) (c2 := P2 - 1) (c3 := P3 - 1) (s1 := P) (s2 := P1) (s3 := P2) (f := i32 A) (l := i32 (A3 - 1 : Nat)) (s := rd σ7 62 5) (r1 := 1) (r2 := 0) (r3 := 2) rfl p5 (by omega) (by omega) (by omega) (by omega) T1.2.1 T2.2.1 z8.2.1 hB1 (by omega) (by omega) (by omega) (by omega) rfl rfl rfl (d + 1)
  rw [z4]
  have e := hrun (fun a10 s13 => some (.inl (some (.int a10)), wr s13 62 8 (i32 A)))
  refine e.symm ▸ ?_
  have hsc : ∀ i, i ≠ 8 → rd (wr σ8 62 8 (i32 A)) 62 i = rd σ7 62 i := fun i hi => by rw [rd_wr, if_neg (by omega)]; exact nC.2.1 62 i rfl (by omega)
  have u7 : ∀ j i, ¬ (j = 123 ∧ i = 18) → rd (wr τ7 123 18 (i32 n)) j i = rd τ7 j i := fun j i hj => by rw [rd_wr, if_neg hj]
  obtain ⟨τ8, f1, f2, f3, f4, f5, f6⟩ := m3_run (L := L) (xs := xs) (τ := wr τ7 123 18 (i32 n)) (r := r) (P := P3) (c1 := P1 - 1) (c2 := P2 - 1) (c3 := P3 - 1) (s1 := P) (s2 := P1) (s3 := P2) (x := 11) (f := i32 A) (w := 0) ((u7 _ _ (by omega)).trans r7) (by omega) ((u7 _ _ (by omega)).trans p5') (by omega) ((u7 _ _ (by omega)).trans q1) ((u7 _ _ (by omega)).trans q2) ((u7 _ _ (by omega)).trans z5) (by omega) (by omega) (by omega) (hpop.s161 (by omega) T1.2.1) (hpop.s161 (by omega) T2.2.1) (hpop.s161 (by omega) z8.2.1) hB1 (by omega) (by omega) (by omega) (by omega)
  have hmS7 : mS L xs τ7 (mBec τ8 r P3) := by
    refine nx r6 (by omega) p3 (IT.old hold7 (by omega) i1) (pc := 355) (by decide +kernel) (fun dm => ?_)
    rw [e310_355 (dm + 7), bV_ok (r := rn L xs (dm + 7) 324 0 _ _ _) (σ := mBec τ8 r P3), e310_362]
    rw [e324_0 (dm + 6), swk_of (p := 316) (by decide +kernel), e324_316 (dm + 6), bV_ok (r := rn L xs (dm + 6) 329 0 _ _ _) (σ := mBec τ8 r P3), e324_323]
    rw [e329_0 (dm + 5), show pv_c2 .ne (i32 ((25 : Nat) : Int)) 27 = true from rfl, cond_true, e329_11 (dm + 5), show pv_c2 .ne (i32 ((25 : Nat) : Int)) 29 = true from rfl, cond_true, e329_22 (dm + 5), show pv_c2 .ne (i32 ((25 : Nat) : Int)) 27 = true from rfl, cond_true, e329_32 (dm + 5), e329_33 (dm + 5), show pv_c2 .ne (i32 ((25 : Nat) : Int)) 25 = false from rfl, cond_false]
    exact f6 (dm + 2) _ _
  have f1 : nodM (wr τ7 123 18 (i32 n)) τ8 P3 (i32 (mKd 18)) (i32 A) (i32 (A3 - 1 : Nat)) P [P1 - 1, P2 - 1, P3 - 1] := by
    rw [u7 137 (r + 2) (by omega), z7] at f1
    exact f1
  obtain ⟨g1, g2, g3⟩ := form_ok (σ' := wr σ8 62 8 (i32 A)) (κ := 18) (A0 := A) (A2 := A3) (P0 := P) (kids := [P1 - 1, P2 - 1, P3 - 1]) (r := r) hpop (Or.inl rfl) hk
    (fun c hc => by
      rcases List.mem_cons.mp hc with e | e
      · rw [e]; exact T1.2.2.1
      · rcases List.mem_cons.mp e with e | e
        · rw [e]; exact T2.2.2.1
        · rw [List.mem_singleton.mp e]; exact z8.2.2.1) rfl
    (fun w c hw2 => by
      rw [scl_no (by omega) (by omega) (by omega)]
      have hc := List.mem_of_getElem? hw2
      rcases List.mem_cons.mp hc with e | e
      · rw [e, T1.2.2.2.2.2]; exact hpop.ch
      · rcases List.mem_cons.mp e with e | e
        · rw [e, T2.2.2.2.2.2]; exact hpop.ch
        · rw [List.mem_singleton.mp e, z8.2.2.2.2.2]; exact hpop.ch) (ownR_no (by omega) (by omega) (by omega)) (by omega) (by omega) nC ⟨fun j i h1 h2 => by rw [rd_wr, if_neg (fun q => by rw [q.1, q.2] at h2; cases h2)], rfl⟩ (by rw [rd_wr, if_pos ⟨rfl, rfl⟩]) ((hsc 9 (by omega)).trans z4) ((hsc 3 (by omega)).trans r1) ((hsc 4 (by omega)).trans r3) ((hsc 11 (by omega)).trans r5) (fun i hi => by rw [wr_nek (by omega)]; exact nC.2.1 63 i rfl (by omega)) f1
    (fun w hw => by
      have : w = 0 ∨ w = 1 ∨ w = 2 := by omega
      rcases this with e | e | e <;> subst e
      · exact f2
      · exact f3
      · exact f4) (fun q => absurd q (by omega)) (nnR_no (by omega) (by omega) (by omega) (by omega)) (((t1.2.mid g35).lo (by omega)).app ((v1.2.mid g57).app z1.2 (by omega)) (by omega)) (nobnd (κ := 18) ((wr_nek (by omega)).trans nC.2.2.1.1) (by omega) (by omega) (by omega) (by omega))
  refine Or.inl ⟨_, _, _, rfl, hmS7, A3, P3 + 1, rfl, g1, g2, by omega, x5, ?_⟩
  exact hold.trans ((hold7.mono (by omega) (Nat.le_refl _) (Nat.le_refl _) (Nat.le_refl _)).trans ((OLD.refl.wrM (by omega)).trans g3 (Nat.le_refl _) (Nat.le_refl _) (Nat.le_refl _) (Nat.le_refl _)) (Nat.le_refl _) (Nat.le_refl _) (Nat.le_refl _) (Nat.le_refl _)) (Nat.le_refl _) (Nat.le_refl _) (Nat.le_refl _) (Nat.le_refl _)
end CHOICE
