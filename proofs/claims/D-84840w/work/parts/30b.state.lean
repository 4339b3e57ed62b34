/-! READING: steps of the model, what comes of a step of both -/
def mS (L : Nat) (xs : Nat → Int32) (τ τ' : tvS) : Prop := ∀ (dm : Nat) (x : Int32), rn L xs (dm + 9) 308 22 [.ref 123, .int x] [] τ = rn L xs (dm + 9) 308 22 [.ref 123, .int x] [] τ'
def IT (τ : tvS) (n X : Nat) (a b : Int32) : Prop := rd τ 132 n = i32 X ∧ rd τ 133 n = a ∧ rd τ 134 n = b
def FLT (L : Nat) (xs : Nat → Int32) (K1 K2 : Nat) (τ : tvS) (R : tvR) : Prop := ∃ (σ0 τ' : tvS) (k p : Int32), R = some (.inr (1016, (rm σ0).1), cFlt σ0 k p) ∧ roomC K1 K2 σ0 ∧ mS L xs τ τ' ∧ rd τ' 123 5 = k ∧ rd τ' 123 6 = p ∧ pv_c1 .le k = false
def OUTI (L : Nat) (xs : Nat → Int32) (K1 K2 : Nat) (τ : tvS) (R : tvR) (Q : Int32 → tvS → tvS → Prop) : Prop := (∃ a σ' τ', R = some (.inl (some (.int a)), σ') ∧ mS L xs τ τ' ∧ Q a σ' τ') ∨ FLT L xs K1 K2 τ R
def OUTV (L : Nat) (xs : Nat → Int32) (K1 K2 : Nat) (τ : tvS) (R : tvR) (Q : tvS → tvS → Prop) : Prop := (∃ σ' τ', R = some (.inl none, σ') ∧ mS L xs τ τ' ∧ Q σ' τ') ∨ FLT L xs K1 K2 τ R
section OUT
variable {L : Nat} {xs : Nat → Int32} {K1 K2 : Nat} {τ τ' τ'' : tvS} {R : tvR} {Q Q' : Int32 → tvS → tvS → Prop} {W W' : tvS → tvS → Prop}
theorem mS.refl : mS L xs τ τ := fun _ _ => rfl
theorem mS.trans (h : mS L xs τ τ') (h' : mS L xs τ' τ'') : mS L xs τ τ'' := fun d x => (h d x).trans (h' d x)
theorem FLT.pre (h : mS L xs τ τ') (f : FLT L xs K1 K2 τ' R) : FLT L xs K1 K2 τ R := by
  obtain ⟨σ0, τ1, k, p, a1, a2, a3, a4⟩ := f
  exact ⟨σ0, τ1, k, p, a1, a2, h.trans a3, a4⟩
theorem OUTI.pre (h : mS L xs τ τ') (f : OUTI L xs K1 K2 τ' R Q) : OUTI L xs K1 K2 τ R Q := by
  rcases f with ⟨a, σ', τ1, a1, a2, a3⟩ | f
  · exact Or.inl ⟨a, σ', τ1, a1, h.trans a2, a3⟩
  · exact Or.inr (f.pre h)
theorem OUTI.mono (f : OUTI L xs K1 K2 τ R Q) (h : ∀ a σ' τ', Q a σ' τ' → Q' a σ' τ') : OUTI L xs K1 K2 τ R Q' := by
  rcases f with ⟨a, σ', τ1, a1, a2, a3⟩ | f
  · exact Or.inl ⟨a, σ', τ1, a1, a2, h _ _ _ a3⟩
  · exact Or.inr f
theorem OUTI.bI {k : Int32 → tvS → tvR} (f : OUTI L xs K1 K2 τ R Q) (h : ∀ a σ' τ', Q a σ' τ' → OUTI L xs K1 K2 τ' (k a σ') Q') : OUTI L xs K1 K2 τ (bI R k X0) Q' := by
  rcases f with ⟨a, σ', τ1, a1, a2, a3⟩ | ⟨σ0, τ1, k', p, a1, a2, a3, a4⟩
  · rw [bI_ok a1]
    exact (h _ _ _ a3).pre a2
  · rw [bI_ex a1]
    exact Or.inr ⟨σ0, τ1, k', p, rfl, a2, a3, a4⟩
theorem OUTV.bV {k : tvS → tvR} (f : OUTV L xs K1 K2 τ R W) (h : ∀ σ' τ', W σ' τ' → OUTI L xs K1 K2 τ' (k σ') Q') : OUTI L xs K1 K2 τ (bV R k X0) Q' := by
  rcases f with ⟨σ', τ1, a1, a2, a3⟩ | ⟨σ0, τ1, k', p, a1, a2, a3, a4⟩
  · rw [bV_ok a1]
    exact (h _ _ a3).pre a2
  · rw [bV_ex a1]
    exact Or.inr ⟨σ0, τ1, k', p, rfl, a2, a3, a4⟩
theorem OUTI.fin {a : Int32} {σ' : tvS} (h : Q a σ' τ) (hR : R = some (.inl (some (.int a)), σ')) : OUTI L xs K1 K2 τ R Q := Or.inl ⟨a, σ', τ, hR, mS.refl, h⟩
/-- the model does what is on top -/
theorem nx {n X pc : Nat} {a b : Int32} (hn : rd τ 123 18 = i32 (n + 1 : Nat)) (hlt : n < 40000) (hf : rd τ 123 5 = 0) (hI : IT τ n X a b) (hsw : ((insP 310 41).bind fun q => tv_sw q.1 41 (i32 X)) = some pc)
    (hrun : ∀ dm, rn L xs (dm + 8) 310 pc [.ref 123, .int (i32 X), .int a, .int b, jv] [] (wr τ 123 18 (i32 n)) = some (.inl none, τ')) : mS L xs τ τ' := by
  intro dm x
  have hs : i32 ((n + 1 : Nat) : Int) - 1 = i32 n := by rw [show (1 : Int32) = i32 1 from rfl, i32_sub]; congr 1; omega
  have e : rn L xs (dm + 8) 310 0 [.ref 123, jv, jv, jv, jv] [] τ = some (.inl none, τ') := by
    rw [e310_0 (dm + 7), hn, hs, c_in (by omega) (by omega) (by omega), c_in (by omega) (by omega) (by omega), c_in (by omega) (by omega) (by omega), i32_ixn (by omega), hI.1, hI.2.1, hI.2.2, swk_of hsw]
    exact hrun dm
  rw [e308_22 (dm + 8), hn, c1_le (by omega) (by omega), c_f (by omega), hf, show pv_c1 .ne (0 : Int32) = false from rfl, cond_false, bV_ok e]
end OUT
/-! what stays -/
def OLX (P : Nat) (σ τ σ' τ' : tvS) : Prop := (∀ j, 43 ≤ j → j ≤ 49 → ∀ i, rd σ' j i = rd σ j i) ∧ (∀ p, p < P → ∀ j, 16 ≤ j → j ≤ 18 → rd σ' j p = rd σ j p) ∧ (∀ j, 138 ≤ j ∧ j ≤ 144 ∨ j = 202 → ∀ i, rd τ' j i = rd τ j i) ∧ (∀ p, p < P → rd τ' 160 p = rd τ 160 p) ∧ (∀ s, s ≤ ix (rd τ 123 42) → rd τ' 149 s = rd τ 149 s ∧ rd τ' 150 s = rd τ 150 s) ∧ ix (rd τ 123 42) ≤ ix (rd τ' 123 42)
theorem OLX.refl {P : Nat} {σ τ : tvS} : OLX P σ τ σ τ := ⟨fun _ _ _ _ => rfl, fun _ _ _ _ _ => rfl, fun _ _ _ => rfl, fun _ _ => rfl, fun _ _ => ⟨rfl, rfl⟩, Nat.le_refl _⟩
theorem OLX.trans {P P1 : Nat} {σ τ σ' τ' σ'' τ'' : tvS} (h : OLX P σ τ σ' τ') (h' : OLX P1 σ' τ' σ'' τ'') (hP : P ≤ P1) : OLX P σ τ σ'' τ'' := by
  obtain ⟨a1, a2, a3, a4, a5, a6⟩ := h
  obtain ⟨b1, b2, b3, b4, b5, b6⟩ := h'
  exact ⟨fun j h1 h2 i => (b1 j h1 h2 i).trans (a1 j h1 h2 i), fun p hp j h1 h2 => (b2 p (by omega) j h1 h2).trans (a2 p hp j h1 h2), fun j hj i => (b3 j hj i).trans (a3 j hj i), fun p hp => (b4 p (by omega)).trans (a4 p hp), fun s hs => ⟨(b5 s (by omega)).1.trans (a5 s hs).1, (b5 s (by omega)).2.trans (a5 s hs).2⟩, by omega⟩
/-- a part binds a variable -/
def bnd (σ : tvS) (p v : Nat) : Prop := v < 5000 ∧ ((rd σ 16 p = i32 17 ∧ 0 < p ∧ rd σ 28 (p - 1) = i32 v) ∨ (rd σ 16 p = i32 19 ∧ rd σ 27 p = i32 v) ∨ (rd σ 16 p = i32 20 ∧ (rd σ 27 p = i32 v ∨ ∃ u : Nat, v = u + 1 ∧ rd σ 27 p = i32 u)))
/-- new parts bind new variables, each its own -/
def UB (E C : List Nat) (σ σ' : tvS) : Prop := (∀ v, v ∈ E → ix (rd σ 15 19) ≤ v ∧ v < ix (rd σ' 15 19)) ∧
  (∀ p v, ix (rd σ 15 13) ≤ p → p < ix (rd σ' 15 13) → bnd σ' p v → v ∈ C ∨ (ix (rd σ 15 19) ≤ v ∧ v < ix (rd σ' 15 19) ∧ v ∉ E)) ∧
  (∀ p p' v, ix (rd σ 15 13) ≤ p → p < ix (rd σ' 15 13) → ix (rd σ 15 13) ≤ p' → p' < ix (rd σ' 15 13) → bnd σ' p v → bnd σ' p' v → p = p')
/-- parts stay; new variables are bound by parts, but for some; some older ones are bound now -/
def MBg (E C : List Nat) (σ σ' : tvS) : Prop := (ix (rd σ 15 13) ≤ ix (rd σ' 15 13) ∧ ∀ p, p < ix (rd σ 15 13) → rd σ' 16 p = rd σ 16 p ∧ rd σ' 27 p = rd σ 27 p ∧ rd σ' 28 p = rd σ 28 p) ∧
  (ix (rd σ 15 19) ≤ ix (rd σ' 15 19) ∧ ∀ v, ix (rd σ 15 19) ≤ v → v < ix (rd σ' 15 19) → v ∈ E ∨ ∃ p, p < ix (rd σ' 15 13) ∧ bnd σ' p v) ∧ UB E C σ σ'
def MB (E : List Nat) (σ σ' : tvS) : Prop := MBg E [] σ σ'
theorem ix_lt (x : Int32) : ix x < 2147483648 := by
  have h := ti_hi x
  show x.toInt.toNat < _
  omega
theorem bnd.to {σ σ' : tvS} {p v P : Nat} (h : bnd σ p v) (hp : p < P) (hm : ∀ p, p < P → rd σ' 16 p = rd σ 16 p ∧ rd σ' 27 p = rd σ 27 p ∧ rd σ' 28 p = rd σ 28 p) : bnd σ' p v := by
  obtain ⟨a1, a2, a3⟩ := hm p hp
  unfold bnd
  rw [a1, a2]
  rcases h with ⟨hv, ⟨h1, h2, h3⟩ | h | h⟩
  · exact ⟨hv, Or.inl ⟨h1, h2, (hm (p - 1) (by omega)).2.2.trans h3⟩⟩
  · exact ⟨hv, Or.inr (Or.inl h)⟩
  · exact ⟨hv, Or.inr (Or.inr h)⟩
theorem bnd.back {σ σ' : tvS} {p v P : Nat} (h : bnd σ' p v) (hp : p < P) (hm : ∀ p, p < P → rd σ' 16 p = rd σ 16 p ∧ rd σ' 27 p = rd σ 27 p ∧ rd σ' 28 p = rd σ 28 p) : bnd σ p v :=
  h.to hp (fun p hp => ⟨(hm p hp).1.symm, (hm p hp).2.1.symm, (hm p hp).2.2.symm⟩)
theorem bnd.stay {σ σ' : tvS} {p v : Nat} (h : bnd σ p v) (hp : p < ix (rd σ 15 13)) (hm : ∀ p, p < ix (rd σ 15 13) → rd σ' 16 p = rd σ 16 p ∧ rd σ' 27 p = rd σ 27 p ∧ rd σ' 28 p = rd σ 28 p) : bnd σ' p v := h.to hp hm
theorem nobnd {σ : tvS} {κ p : Nat} (h : rd σ 16 p = i32 κ) (hκ : κ ≤ 20) (h1 : κ ≠ 17) (h2 : κ ≠ 19) (h3 : κ ≠ 20) (v : Nat) (hb : bnd σ p v) : v ∈ ([] : List Nat) := by
  have hn : ∀ x : Nat, x ≤ 20 → κ ≠ x → rd σ 16 p ≠ i32 x := fun x hx hne e => hne (by
    have := (i32_inj (by omega) (by omega) (by omega) (by omega)).mp (h.symm.trans e)
    omega)
  rcases hb with ⟨_, h | h | h⟩
  · exact absurd h.1 (hn 17 (by omega) h1)
  · exact absurd h.1 (hn 19 (by omega) h2)
  · exact absurd h.1 (hn 20 (by omega) h3)
theorem bnd.only {σ : tvS} {κ p V v : Nat} (hb : bnd σ p v) (h : rd σ 16 p = i32 κ) (hV : V < 5000) (hκ : (κ = 17 ∧ rd σ 28 (p - 1) = i32 V) ∨ (κ = 19 ∧ rd σ 27 p = i32 V)) : v ∈ [V] := by
  have hn : ∀ x : Nat, x ≤ 20 → rd σ 16 p = i32 x → κ = x := fun x hx e => by
    have := (i32_inj (by omega) (by omega) (by omega) (by omega)).mp (h.symm.trans e)
    omega
  have ev : ∀ y : Int32, y = i32 V → y = i32 v → v ∈ [V] := fun y e1 e2 => by
    have := (i32_inj (by omega) (by omega) (by have := hb.1; omega) (by have := hb.1; omega)).mp (e1.symm.trans e2)
    rw [show v = V by omega]; exact List.mem_cons_self
  rcases hb with ⟨hv, h1 | h1 | h1⟩
  · have := hn 17 (by omega) h1.1
    rcases hκ with q | q
    · exact ev _ q.2 h1.2.2
    · omega
  · have := hn 19 (by omega) h1.1
    rcases hκ with q | q
    · omega
    · exact ev _ q.2 h1.2
  · have := hn 20 (by omega) h1.1; omega
theorem bnd.two {σ : tvS} {p V v : Nat} (hb : bnd σ p v) (h : rd σ 16 p = i32 20) (hV : V < 5000) (h27 : rd σ 27 p = i32 V) : v ∈ [V, V + 1] := by
  have ev : ∀ u : Nat, u < 5000 → rd σ 27 p = i32 u → u = V := fun u hu e => by
    have := (i32_inj (by omega) (by omega) (by omega) (by omega)).mp (h27.symm.trans e)
    omega
  rcases hb with ⟨hv, h1 | h1 | ⟨h1, h2 | ⟨u, h2, h3⟩⟩⟩
  · have := (i32_inj (by omega) (by omega) (by omega) (by omega)).mp (h.symm.trans h1.1); omega
  · have := (i32_inj (by omega) (by omega) (by omega) (by omega)).mp (h.symm.trans h1.1); omega
  · rw [ev v hv h2]; exact List.mem_cons_self
  · rw [h2, ev u (by omega) h3]; exact List.mem_cons_of_mem _ List.mem_cons_self
theorem MB.same {σ σ' : tvS} (h : ∀ j i, j = 16 ∨ j = 24 ∨ j = 27 ∨ j = 28 ∨ j = 15 ∧ (i = 13 ∨ i = 19) → rd σ' j i = rd σ j i) : MB [] σ σ' := by
  have e13 : ix (rd σ' 15 13) = ix (rd σ 15 13) := by rw [h 15 13 (by omega)]
  have e19 : ix (rd σ' 15 19) = ix (rd σ 15 19) := by rw [h 15 19 (by omega)]
  exact ⟨⟨by omega, fun p _ => ⟨h 16 p (by omega), h 27 p (by omega), h 28 p (by omega)⟩⟩, ⟨by omega, fun v h1 h2 => by omega⟩, fun v hv => (by cases hv), fun p v h1 h2 => by omega, fun p p' v h1 h2 => by omega⟩
theorem MB.trans {E E' : List Nat} {σ σ' σ'' : tvS} (h : MB E σ σ') (h' : MB E' σ' σ'') : MB (E ++ E') σ σ'' := by
  obtain ⟨⟨a1, a2⟩, ⟨a3, a4⟩, u1, u2, u3⟩ := h
  obtain ⟨⟨b1, b2⟩, ⟨b3, b4⟩, w1, w2, w3⟩ := h'
  refine ⟨⟨by omega, fun p hp => ?_⟩, ⟨by omega, fun v h1 h2 => ?_⟩, fun v hv => ?_, fun p v h1 h2 hb => ?_, fun p p' v h1 h2 h3 h4 hb hb' => ?_⟩
  · obtain ⟨c1, c2, c3⟩ := a2 p hp
    obtain ⟨d1, d2, d3⟩ := b2 p (by omega)
    exact ⟨d1.trans c1, d2.trans c2, d3.trans c3⟩
  · by_cases q : v < ix (rd σ' 15 19)
    · rcases a4 v h1 q with e | ⟨p, e1, e2⟩
      · exact Or.inl (List.mem_append_left _ e)
      · exact Or.inr ⟨p, by omega, e2.stay e1 b2⟩
    · rcases b4 v (by omega) h2 with e | e
      · exact Or.inl (List.mem_append_right _ e)
      · exact Or.inr e
  · rcases List.mem_append.mp hv with e | e
    · have := u1 v e; omega
    · have := w1 v e; omega
  · right
    by_cases q : p < ix (rd σ' 15 13)
    · rcases u2 p v h1 q (hb.back q b2) with e | ⟨e1, e2, e3⟩
      · cases e
      · exact ⟨e1, by omega, fun k => (List.mem_append.mp k).elim e3 (fun k => by have := w1 v k; omega)⟩
    · rcases w2 p v (by omega) h2 hb with e | ⟨e1, e2, e3⟩
      · cases e
      · exact ⟨by omega, e2, fun k => (List.mem_append.mp k).elim (fun k => by have := u1 v k; omega) e3⟩
  · have key : ∀ p p', ix (rd σ 15 13) ≤ p → p < ix (rd σ' 15 13) → ix (rd σ' 15 13) ≤ p' → p' < ix (rd σ'' 15 13) → bnd σ'' p v → bnd σ'' p' v → False := by
      intro p p' k1 k2 k3 k4 k5 k6
      rcases u2 p v k1 k2 (k5.back k2 b2) with e | ⟨e1, e2, e3⟩
      · cases e
      · rcases w2 p' v k3 k4 k6 with e | ⟨g1, g2, g3⟩
        · cases e
        · omega
    by_cases q : p < ix (rd σ' 15 13)
    · by_cases q' : p' < ix (rd σ' 15 13)
      · exact u3 p p' v h1 q h3 q' (hb.back q b2) (hb'.back q' b2)
      · exact (key p p' h1 q (by omega) h4 hb hb').elim
    · by_cases q' : p' < ix (rd σ' 15 13)
      · exact (key p' p h3 q' (by omega) h2 hb' hb).elim
      · exact w3 p p' v (by omega) h2 (by omega) h4 hb hb'
/-- what was left is bound -/
theorem MB.bind {E C : List Nat} {σ σ' σ'' : tvS} (h : MB E σ σ') (h' : MBg [] C σ' σ'') (hC : ∀ v, v ∈ C → v ∈ E) (hE : ∀ v, v ∈ E → ∃ p, p < ix (rd σ'' 15 13) ∧ bnd σ'' p v) : MB [] σ σ'' := by
  obtain ⟨⟨a1, a2⟩, ⟨a3, a4⟩, u1, u2, u3⟩ := h
  obtain ⟨⟨b1, b2⟩, ⟨b3, b4⟩, w1, w2, w3⟩ := h'
  refine ⟨⟨by omega, fun p hp => ?_⟩, ⟨by omega, fun v h1 h2 => ?_⟩, fun v hv => (by cases hv), fun p v h1 h2 hb => ?_, fun p p' v h1 h2 h3 h4 hb hb' => ?_⟩
  · obtain ⟨c1, c2, c3⟩ := a2 p hp
    obtain ⟨d1, d2, d3⟩ := b2 p (by omega)
    exact ⟨d1.trans c1, d2.trans c2, d3.trans c3⟩
  · right
    by_cases q : v < ix (rd σ' 15 19)
    · rcases a4 v h1 q with e | ⟨p, e1, e2⟩
      · exact hE v e
      · exact ⟨p, by omega, e2.stay e1 b2⟩
    · rcases b4 v (by omega) h2 with e | e
      · cases e
      · exact e
  · right
    by_cases q : p < ix (rd σ' 15 13)
    · rcases u2 p v h1 q (hb.back q b2) with e | ⟨e1, e2, e3⟩
      · cases e
      · exact ⟨e1, by omega, fun k => (by cases k)⟩
    · rcases w2 p v (by omega) h2 hb with e | ⟨e1, e2, e3⟩
      · have := u1 v (hC v e); exact ⟨by omega, by omega, fun k => (by cases k)⟩
      · exact ⟨by omega, e2, fun k => (by cases k)⟩
  · have key : ∀ p p', ix (rd σ 15 13) ≤ p → p < ix (rd σ' 15 13) → ix (rd σ' 15 13) ≤ p' → p' < ix (rd σ'' 15 13) → bnd σ'' p v → bnd σ'' p' v → False := by
      intro p p' k1 k2 k3 k4 k5 k6
      rcases u2 p v k1 k2 (k5.back k2 b2) with e | ⟨e1, e2, e3⟩
      · cases e
      · rcases w2 p' v k3 k4 k6 with e | ⟨g1, g2, g3⟩
        · exact e3 (hC v e)
        · omega
    by_cases q : p < ix (rd σ' 15 13)
    · by_cases q' : p' < ix (rd σ' 15 13)
      · exact u3 p p' v h1 q h3 q' (hb.back q b2) (hb'.back q' b2)
      · exact (key p p' h1 q (by omega) h4 hb hb').elim
    · by_cases q' : p' < ix (rd σ' 15 13)
      · exact (key p' p h3 q' (by omega) h2 hb' hb).elim
      · exact w3 p p' v (by omega) h2 (by omega) h4 hb hb'
theorem MB.node {σ σ' : tvS} {P : Nat} {C : List Nat} (h13 : rd σ 15 13 = i32 P) (hP : P < 4101) (e13 : rd σ' 15 13 = i32 (P + 1 : Nat)) (e19 : rd σ' 15 19 = rd σ 15 19) (hC : ∀ j i, i < P → j = 16 ∨ j = 27 ∨ j = 28 → rd σ' j i = rd σ j i) (hb : ∀ v, bnd σ' P v → v ∈ C) : MBg [] C σ σ' := by
  have g13 : ix (rd σ 15 13) = P := by rw [h13, i32_ixn (by omega)]
  have f13 : ix (rd σ' 15 13) = P + 1 := by rw [e13, i32_ixn (by omega)]
  unfold MBg UB
  rw [g13, f13, e19]
  exact ⟨⟨by omega, fun p hp => ⟨hC 16 p hp (by omega), hC 27 p hp (by omega), hC 28 p hp (by omega)⟩⟩, ⟨Nat.le_refl _, fun v h1 h2 => by omega⟩, fun v hv => (by cases hv), fun p v h1 h2 hp => Or.inl (hb v (by rw [show P = p by omega]; exact hp)), fun p p' v h1 h2 h3 h4 _ _ => by omega⟩
/-- all but these stays -/
theorem OLX.of {P : Nat} {σ τ σ' τ' : tvS} (hC : ∀ j i, 43 ≤ j ∧ j ≤ 49 ∨ 16 ≤ j ∧ j ≤ 18 ∧ i < P → rd σ' j i = rd σ j i) (hM : ∀ j i, 138 ≤ j ∧ j ≤ 144 ∨ j = 202 ∨ j = 160 ∧ i < P ∨ j = 149 ∨ j = 150 ∨ j = 123 ∧ i = 42 → rd τ' j i = rd τ j i) : OLX P σ τ σ' τ' :=
  ⟨fun j h1 h2 i => hC j i (by omega), fun p hp j h1 h2 => hC j p (by omega), fun j hj i => hM j i (by omega), fun p hp => hM 160 p (by omega), fun s _ => ⟨hM 149 s (by omega), hM 150 s (by omega)⟩, by rw [hM 123 42 (by omega)]; exact Nat.le_refl _⟩
def OLDg (E C : List Nat) (n r H P : Nat) (σ τ σ' τ' : tvS) : Prop := (∀ i, i < n → ∀ j, 132 ≤ j → j ≤ 134 → rd τ' j i = rd τ j i) ∧ (∀ i, i < r → ∀ j, 135 ≤ j → j ≤ 137 → rd τ' j i = rd τ j i) ∧ (∀ i, i < H → rd σ' 63 i = rd σ 63 i) ∧ (∀ p, p < P → ∀ j, 23 ≤ j → j ≤ 28 → rd σ' j p = rd σ j p) ∧
  (∀ v, v < ix (rd σ 15 19) → rl σ' 29 v = rl σ 29 v ∧ rd σ' 31 v = rd σ 31 v ∧ rd σ' 32 v = rd σ 32 v ∧ rd σ' 33 v = rd σ 33 v) ∧ ix (rd σ 15 19) ≤ ix (rd σ' 15 19) ∧ (∀ j, j ≠ 29 → ∀ i, rl σ' j i = rl σ j i) ∧ OLX P σ τ σ' τ' ∧ MBg E C σ σ'
def OLDe (E : List Nat) (n r H P : Nat) (σ τ σ' τ' : tvS) : Prop := OLDg E [] n r H P σ τ σ' τ'
def OLD (n r H P : Nat) (σ τ σ' τ' : tvS) : Prop := OLDe [] n r H P σ τ σ' τ'
/-- a part that stands in none yet -/
def PT (P p : Nat) (σ : tvS) : Prop := P ≤ p ∧ rd σ 26 p = i32 P ∧ rd σ 24 p = i32 (-1) ∧ rd σ 25 p = 0 ∧ rd σ 23 p = i32 (-1) ∧ rd σ 28 p = rd σ 62 5
/-- new parts begin behind A -/
def RF (A P P' : Nat) (σ : tvS) : Prop := ∀ q, P ≤ q → q < P' → A ≤ ix (rd σ 17 q)
def TOP (A P A' P' r : Nat) (σ' τ' : tvS) : Prop := (A < A' ∧ RF A P P' σ') ∧ P < P' ∧ rd σ' 62 8 = i32 A ∧ rd σ' 62 9 = i32 (A' - 1 : Nat) ∧ rd τ' 135 r = i32 (P' - 1 : Nat) ∧ rd τ' 136 r = i32 A ∧ rd τ' 137 r = i32 (A' - 1 : Nat) ∧ PT P (P' - 1) σ'
def NTQ (K1 K2 m : Nat) (μ : Nat → Nat) (g fc : Nat) (sc : List Nat) (fs : List (Nat × Nat × List Nat)) (D H n r A P : Nat) (σ τ : tvS) (a : Int32) (σ' τ' : tvS) : Prop := ∃ A' P' : Nat, a = i32 (P' - 1 : Nat) ∧ ST K1 K2 m μ g fc sc fs D H n A' P' (r + 1) σ' τ' ∧ TOP A P A' P' r σ' τ' ∧ P' + ach μ A + wch μ A ≤ P + wch μ A' ∧ aen (μ (A' - 1)) = true ∧ OLD n r H P σ τ σ' τ'
/-- what it means that a method of the component and a word of the model read the same -/
def NT (L : Nat) (xs : Nat → Int32) (K1 K2 m : Nat) (μ : Nat → Nat) (g fc X M k e : Nat) (loc : List Value) (B : Nat) : Prop := ∀ (sc : List Nat) (fs : List (Nat × Nat × List Nat)) (D H n A P r : Nat) (σ τ : tvS) (d : Nat), ST K1 K2 m μ g fc sc fs D H (n + 1) A P r σ τ → rd τ 132 n = i32 X → m - A < B → n ≤ 8 * A + k → 12 * (40 - D) + 20 + e ≤ d →
  OUTI L xs K1 K2 τ (rn L xs d M 0 (.ref 62 :: loc) [] σ) (NTQ K1 K2 m μ g fc sc fs D H n r A P σ τ)
section OLD1
variable {L : Nat} {xs : Nat → Int32} {K1 K2 m : Nat} {μ : Nat → Nat} {g fc : Nat} {sc : List Nat} {fs : List (Nat × Nat × List Nat)} {F D H n A P r : Nat} {σ τ σ' τ' σ'' τ'' : tvS}
theorem OLD.refl : OLD n r H P σ τ σ τ := ⟨fun _ _ _ _ _ => rfl, fun _ _ _ _ _ => rfl, fun _ _ => rfl, fun _ _ _ _ _ => rfl, fun _ _ => ⟨rfl, rfl, rfl, rfl⟩, Nat.le_refl _, fun _ _ _ => rfl, OLX.refl, MB.same (fun _ _ _ => rfl)⟩
theorem OLDe.trans {E E' : List Nat} {n1 r1 H1 P1 : Nat} (h : OLDe E n r H P σ τ σ' τ') (h' : OLDe E' n1 r1 H1 P1 σ' τ' σ'' τ'') (hn : n ≤ n1) (hr : r ≤ r1) (hH : H ≤ H1) (hP : P ≤ P1) : OLDe (E ++ E') n r H P σ τ σ'' τ'' := by
  obtain ⟨a1, a2, a3, a4, a5, a6, a7, a8, a9⟩ := h
  obtain ⟨b1, b2, b3, b4, b5, b6, b7, b8, b9⟩ := h'
  refine ⟨fun i hi j h1 h2 => (b1 i (by omega) j h1 h2).trans (a1 i hi j h1 h2), fun i hi j h1 h2 => (b2 i (by omega) j h1 h2).trans (a2 i hi j h1 h2), fun i hi => (b3 i (by omega)).trans (a3 i hi), fun p hp j h1 h2 => (b4 p (by omega) j h1 h2).trans (a4 p hp j h1 h2), fun v hv => ?_, Nat.le_trans a6 b6, fun j hj i => (b7 j hj i).trans (a7 j hj i), a8.trans b8 hP, MB.trans a9 b9⟩
  obtain ⟨c1, c2, c3, c4⟩ := a5 v hv
  obtain ⟨e1, e2, e3, e4⟩ := b5 v (by omega)
  exact ⟨e1.trans c1, e2.trans c2, e3.trans c3, e4.trans c4⟩
theorem OLD.trans {n1 r1 H1 P1 : Nat} (h : OLD n r H P σ τ σ' τ') (h' : OLD n1 r1 H1 P1 σ' τ' σ'' τ'') (hn : n ≤ n1) (hr : r ≤ r1) (hH : H ≤ H1) (hP : P ≤ P1) : OLD n r H P σ τ σ'' τ'' := OLDe.trans (E := []) (E' := []) h h' hn hr hH hP
theorem OLDe.bind {E C : List Nat} {n1 r1 H1 P1 : Nat} (h : OLDe E n r H P σ τ σ' τ') (h' : OLDg [] C n1 r1 H1 P1 σ' τ' σ'' τ'') (hn : n ≤ n1) (hr : r ≤ r1) (hH : H ≤ H1) (hP : P ≤ P1) (hC : ∀ v, v ∈ C → v ∈ E) (hE : ∀ v, v ∈ E → ∃ p, p < ix (rd σ'' 15 13) ∧ bnd σ'' p v) : OLD n r H P σ τ σ'' τ'' := by
  obtain ⟨a1, a2, a3, a4, a5, a6, a7, a8, a9⟩ := h
  obtain ⟨b1, b2, b3, b4, b5, b6, b7, b8, b9⟩ := h'
  refine ⟨fun i hi j h1 h2 => (b1 i (by omega) j h1 h2).trans (a1 i hi j h1 h2), fun i hi j h1 h2 => (b2 i (by omega) j h1 h2).trans (a2 i hi j h1 h2), fun i hi => (b3 i (by omega)).trans (a3 i hi), fun p hp j h1 h2 => (b4 p (by omega) j h1 h2).trans (a4 p hp j h1 h2), fun v hv => ?_, Nat.le_trans a6 b6, fun j hj i => (b7 j hj i).trans (a7 j hj i), a8.trans b8 hP, MB.bind a9 b9 hC hE⟩
  obtain ⟨c1, c2, c3, c4⟩ := a5 v hv
  obtain ⟨e1, e2, e3, e4⟩ := b5 v (by omega)
  exact ⟨e1.trans c1, e2.trans c2, e3.trans c3, e4.trans c4⟩
theorem OLD.wrC (h : OLD n r H P σ τ σ' τ') {j i : Nat} {x : Int32} (h1 : j = 62 ∨ j = 63 ∧ H ≤ i) : OLD n r H P σ τ (wr σ' j i x) τ' := by
  obtain ⟨a1, a2, a3, a4, a5, a6, a7, a8, a9⟩ := h
  refine ⟨a1, a2, fun i' hi => ?_, fun p hp j' h2 h3 => ?_, fun v hv => ?_, ?_, a7, a8.trans (P1 := P) (OLX.of (fun j' i' h => by rw [rd_wr, if_neg (by omega)]) (fun _ _ _ => rfl)) (Nat.le_refl _), MB.trans (E' := []) a9 (MB.same (fun j' i' h => by rw [rd_wr, if_neg (by omega)]))⟩
  · rw [rd_wr, if_neg (by omega)]; exact a3 i' hi
  · rw [rd_wr, if_neg (by omega)]; exact a4 p hp j' h2 h3
  · rw [rl_wr, rd_wr, rd_wr, rd_wr, if_neg (by omega), if_neg (by omega), if_neg (by omega)]; exact a5 v hv
  · rw [rd_wr, if_neg (by omega)]; exact a6
theorem OLD.wrM (h : OLD n r H P σ τ σ' τ') {j i : Nat} {x : Int32} (h1 : (j = 123 ∧ i ≠ 42) ∨ (132 ≤ j ∧ j ≤ 134 ∧ n ≤ i) ∨ (135 ≤ j ∧ j ≤ 137 ∧ r ≤ i)) : OLD n r H P σ τ σ' (wr τ' j i x) := by
  obtain ⟨a1, a2, a3, a4, a5, a6, a7, a8, a9⟩ := h
  refine ⟨fun i' hi j' h2 h3 => ?_, fun i' hi j' h2 h3 => ?_, a3, a4, a5, a6, a7, a8.trans (P1 := P) (OLX.of (fun _ _ _ => rfl) (fun j' i' h => by rw [rd_wr, if_neg (by omega)])) (Nat.le_refl _), a9⟩
  · rw [rd_wr, if_neg (by omega)]; exact a1 i' hi j' h2 h3
  · rw [rd_wr, if_neg (by omega)]; exact a2 i' hi j' h2 h3
theorem OLD.push (h : OLD n r H P σ τ σ' τ') {i : Nat} {x a b : Int32} (h1 : n ≤ i) : OLD n r H P σ τ σ' (mPush τ' i x a b) := (((h.wrM (by omega)).wrM (by omega)).wrM (by omega)).wrM (by omega)
theorem IT.old (h : OLD n r H P σ τ σ' τ') {i X : Nat} {a b : Int32} (hi : i < n) (hI : IT τ i X a b) : IT τ' i X a b := ⟨(h.1 i hi 132 (by omega) (by omega)).trans hI.1, (h.1 i hi 133 (by omega) (by omega)).trans hI.2.1, (h.1 i hi 134 (by omega) (by omega)).trans hI.2.2⟩
theorem IT.wr {i X : Nat} {a b : Int32} {j k : Nat} {x : Int32} (hI : IT τ i X a b) (hj : j < 132 ∨ 134 < j) : IT (wr τ j k x) i X a b := ⟨(wr_nek (by omega)).trans hI.1, (wr_nek (by omega)).trans hI.2.1, (wr_nek (by omega)).trans hI.2.2⟩
theorem IT.push {i i' X : Nat} {a b x a' b' : Int32} (hI : IT τ i X a b) (hi : i ≠ i') : IT (mPush τ i' x a' b') i X a b := by
  unfold mPush IT
  refine ⟨?_, ?_, ?_⟩ <;> simp only [rd_wr]
  · rw [if_neg (by omega), if_neg (by omega), if_neg (by omega), if_neg (by omega)]; exact hI.1
  · rw [if_neg (by omega), if_neg (by omega), if_neg (by omega), if_neg (by omega)]; exact hI.2.1
  · rw [if_neg (by omega), if_neg (by omega), if_neg (by omega), if_neg (by omega)]; exact hI.2.2
theorem IT.at {i : Nat} {x a' b' : Int32} {X : Nat} (hx : x = i32 X) : IT (mPush τ i x a' b') i X a' b' := by
  unfold mPush IT
  refine ⟨?_, ?_, ?_⟩ <;> simp [rd_wr, hx]
theorem mPush_come {i : Nat} {x a' b' : Int32} : rd (mPush τ i x a' b') 123 18 = i32 (i + 1 : Nat) := by unfold mPush; rw [rd_wr, if_pos ⟨rfl, rfl⟩]
theorem mPush_oth {i : Nat} {x a' b' : Int32} {j k : Nat} (hj : j < 132 ∨ 134 < j) (h : j = 123 → k ≠ 18) : rd (mPush τ i x a' b') j k = rd τ j k := by
  unfold mPush
  rw [rd_wr, if_neg (by omega), wr_nek (by omega), wr_nek (by omega), wr_nek (by omega)]
theorem OLDg.r17 {E C : List Nat} {q : Nat} (h : OLDg E C n r H P σ τ σ' τ') (hq : q < P) {j : Nat} (h1 : 16 ≤ j) (h2 : j ≤ 18) : rd σ' j q = rd σ j q := h.2.2.2.2.2.2.2.1.2.1 q hq j h1 h2
theorem RF.to {A0 P0 P1 : Nat} (h : RF A0 P0 P1 σ) (hs : ∀ q, q < P1 → rd σ' 17 q = rd σ 17 q) : RF A0 P0 P1 σ' := fun q h1 h2 => by rw [hs q h2]; exact h q h1 h2
theorem RF.none {A0 P0 : Nat} : RF A0 P0 P0 σ := fun q h1 h2 => by omega
theorem RF.join {E C : List Nat} {A0 A1 P0 P1 P2 : Nat} (h1 : RF A0 P0 P1 σ) (ho : OLDg E C n r H P1 σ τ σ' τ') (h2 : RF A1 P1 P2 σ') (hA : A0 ≤ A1) : RF A0 P0 P2 σ' := fun q a b => by
  by_cases e : q < P1
  · rw [ho.r17 e (j := 17) (by omega) (by omega)]; exact h1 q a e
  · have := h2 q (by omega) b; omega
theorem RF.mid {E C : List Nat} {A0 P0 : Nat} (h1 : RF A0 P0 P σ) (ho : OLDg E C n r H P σ τ σ' τ') : RF A0 P0 P σ' := h1.to (fun q hq => ho.r17 hq (by omega) (by omega))
theorem RF.app {A0 A1 P0 P1 P2 : Nat} (h1 : RF A0 P0 P1 σ) (h2 : RF A1 P1 P2 σ) (hA : A0 ≤ A1) : RF A0 P0 P2 σ := fun q a b => by
  by_cases e : q < P1
  · exact h1 q a e
  · have := h2 q (by omega) b; omega
theorem RF.lo {A0 A1 P0 P1 : Nat} (h1 : RF A1 P0 P1 σ) (hA : A0 ≤ A1) : RF A0 P0 P1 σ := fun q a b => by have := h1 q a b; omega
theorem PT.old {p P0 : Nat} (h : OLD n r H P σ τ σ' τ') (hp : p < P) (h5 : rd σ' 62 5 = rd σ 62 5) (hT : PT P0 p σ) : PT P0 p σ' := by
  obtain ⟨a0, a1, a2, a3, a4, a5⟩ := hT
  have e := h.2.2.2.1 p hp
  exact ⟨a0, (e 26 (by omega) (by omega)).trans a1, (e 24 (by omega) (by omega)).trans a2, (e 25 (by omega) (by omega)).trans a3, (e 23 (by omega) (by omega)).trans a4, ((e 28 (by omega) (by omega)).trans a5).trans h5.symm⟩
/-! what a state tells -/
theorem CORE.lv (h : CORE K1 K2 m μ g fc sc fs F A P r σ τ) : LV m σ τ ∧ mu τ = μ ∧ rd τ 123 5 = 0 ∧ roomC K1 K2 σ ∧ (rd σ 15 13 = i32 P ∧ rd τ 123 46 = i32 P) ∧ r ≤ P := by
  obtain ⟨V, S, C, q, cp, a1, a2, a3, a5, a9, ⟨a10, a11⟩, a12, a13, a14, a15, a16, a17, b1⟩ := h
  exact ⟨a1, a2, a12, a17, a3, by omega⟩
theorem wch_mono (f : Nat → Nat) {a b : Nat} (h : a ≤ b) : wch f a ≤ wch f b := by
  induction h with
  | refl => exact Nat.le_refl _
  | step h ih => rw [wch_succ]; omega
theorem STF.ag (h : STF K1 K2 m μ g fc sc fs F D H n A P r σ τ) (hC : agC σ σ') (hM : agM τ τ') {A' D' H' n' : Nat} (hA : A ≤ A') (hA' : A' ≤ m) (hD : D' ≤ 40) (hH : H' ≤ 3 * A') (hn : n' ≤ 8 * A' + 20)
    (e1 : rd σ' 62 3 = i32 A') (e2 : rd τ' 123 17 = i32 A') (e3 : rd σ' 62 4 = i32 D') (e4 : rd τ' 123 26 = i32 D') (e5 : rd σ' 62 11 = i32 H') (e6 : rd τ' 123 18 = i32 n') (e7 : rd τ' 123 22 = i32 r) : STF K1 K2 m μ g fc sc fs F D' H' n' A' P r σ' τ' := by
  obtain ⟨hc, ⟨s1, s2, s3, s4, s5, s6, s7, s8, s9, s10, s11, s12⟩, s13⟩ := h
  have hlv := hc.lv
  have hw := wch_mono μ hA
  have hb := hlv.1.2.2.2.2.2.2.1 A s8
  rw [hlv.2.1] at hb
  exact ⟨hc.ag (by omega) hC hM hA, ⟨e1, e2, e3, e4, e5, e6, e7, hA', hD, hH, hn, by omega⟩, by omega⟩
theorem ST.ag (h : ST K1 K2 m μ g fc sc fs D H n A P r σ τ) (hC : agC σ σ') (hM : agM τ τ') {A' D' H' n' : Nat} (hA : A ≤ A') (hA' : A' ≤ m) (hD : D' ≤ 40) (hH : H' ≤ 3 * A') (hn : n' ≤ 8 * A' + 20)
    (e1 : rd σ' 62 3 = i32 A') (e2 : rd τ' 123 17 = i32 A') (e3 : rd σ' 62 4 = i32 D') (e4 : rd τ' 123 26 = i32 D') (e5 : rd σ' 62 11 = i32 H') (e6 : rd τ' 123 18 = i32 n') (e7 : rd τ' 123 22 = i32 r) : ST K1 K2 m μ g fc sc fs D' H' n' A' P r σ' τ' := by
  obtain ⟨F, h, hF, hO, hPF, hZ⟩ := h
  refine ⟨F, h.ag hC hM hA hA' hD hH hn e1 e2 e3 e4 e5 e6 e7, by omega, ?_, fun f hf => ?_, hZ.congr (fun i hi => by rcases hi with e | e | e | e | e <;> rw [e] <;> exact hM 123 _ rfl) (fun j hj i => by rcases hj with e | e | e | e | e | e <;> rw [e] <;> exact hM _ i rfl)⟩
  · rw [hC.1 62 6 rfl, hO]
    cases sc with
    | nil => rfl
    | cons v t => exact (hC.1 31 v rfl).symm
  · obtain ⟨a, b1, b2⟩ := hPF f hf
    exact ⟨a, (hC.1 46 f rfl).trans b1, b2⟩
/-- what is in scope is told by one word -/
theorem ST.s5 (h : ST K1 K2 m μ g fc sc fs D H n A P r σ τ) {D' H' n' A' P' r' : Nat} (h' : ST K1 K2 m μ g fc sc fs D' H' n' A' P' r' σ' τ') : rd σ' 62 5 = rd σ 62 5 := by
  obtain ⟨F, ⟨hc, _, _⟩, _⟩ := h
  obtain ⟨F', ⟨hc', _, _⟩, _⟩ := h'
  obtain ⟨V, S, C, q, cp, a1, a2, a3, a5, a9, a10, a12, a13, a14, a15, _⟩ := hc
  obtain ⟨V', S', C', q', cp', b1, b2, b3, b5, b9, b10, b12, b13, b14, b15, _⟩ := hc'
  exact chC.det _ _ _ b15.1 a15.1
theorem ST.ch (h : ST K1 K2 m μ g fc sc fs D H n A P r σ τ) : chC σ sc (rd σ 62 5) := by
  obtain ⟨F, ⟨hc, _, _⟩, _⟩ := h
  obtain ⟨V, S, C, q, cp, a1, a2, a3, a5, a9, a10, a12, a13, a14, a15, _⟩ := hc
  exact a15.1
/-- all that is known of where they stand -/
theorem ST.all (h : ST K1 K2 m μ g fc sc fs D H n A P r σ τ) : LV m σ τ ∧ mu τ = μ ∧ rd τ 123 5 = 0 ∧ xnOK σ = true ∧ (rd σ 15 13 = i32 P ∧ rd τ 123 46 = i32 P) ∧ r ≤ P ∧ SCAL m μ A D H n P r σ τ ∧ m ≤ 3000 ∧ P ≤ 4001 ∧ roomC K1 K2 σ := by
  obtain ⟨F, ⟨hc, hs, _⟩, hF, _⟩ := h
  obtain ⟨a1, a2, a3, a4, a5, a6⟩ := hc.lv
  have hs' := hs
  obtain ⟨s1, s2, s3, s4, s5, s6, s7, s8, s9, s10, s11, s12⟩ := hs
  have hb := a1.2.2.2.2.2.2.1 A s8
  rw [a2] at hb
  exact ⟨a1, a2, a3, a4.xn, a5, a6, hs', a1.1, by omega, a4⟩
end OLD1
