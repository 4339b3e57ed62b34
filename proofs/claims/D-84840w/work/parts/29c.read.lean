/-! READING: scopes, names -/
def chC (σ : tvS) : List Nat → Int32 → Prop
  | [], x => x = i32 (-1)
  | v :: r, x => x = i32 v ∧ v < 4101 ∧ rd σ 33 v = i32 (r.length + 1 : Nat) ∧ chC σ r (rd σ 32 v)
def chM (τ : tvS) (S : Nat) : List Nat → Int32 → Prop
  | [], x => x = 0
  | v :: r, x => ∃ s : Nat, 1 ≤ s ∧ s ≤ S ∧ x = i32 s ∧ rd τ 149 s = i32 v ∧ chM τ S r (rd τ 150 s)
def vRes (o : Option Nat) : Int32 := match o with | some v => i32 v | none => i32 (-1)
/-- a name that both know: by its lexeme -/
def nmR (m : Nat) (σ τ : tvS) (y : Int64) (w : Int32) : Prop := ∃ k, k < m ∧ mu τ k = 1 ∧ rl σ 12 k = y ∧ rd τ 129 k = w
def VARS (m V : Nat) (σ τ : tvS) : Prop := ∀ v, v < V → ∃ k : Nat, k < m ∧ mu τ k = 1 ∧ rd σ 30 v = i32 k ∧ rd τ 146 v = i32 k ∧ rl σ 29 v = rl σ 12 k ∧ rd τ 145 v = rd τ 129 k
def FUNS (m fc : Nat) (σ τ : tvS) : Prop := fc ≤ 20 ∧ ∀ f, f < fc → nmR m σ τ (rl σ 42 f) (rd τ 138 f)
/-- what is in scope, the latest first -/
def SCP (V S : Nat) (sc : List Nat) (σ τ : tvS) : Prop := chC σ sc (rd σ 62 5) ∧ chM τ S sc (rd τ 123 43) ∧ rd τ 123 40 = i32 sc.length ∧ sc.length ≤ 40 ∧
  (∀ k, k < sc.length → rd τ 148 k = i32 (sc.reverse.getD k 0) ∧ rd τ 147 (sc.reverse.getD k 0) = i32 k) ∧ (∀ v, v ∈ sc → v < V) ∧
  (∀ u v, u ∈ sc → v ∈ sc → rl σ 29 u = rl σ 29 v → u = v) ∧ rd τ 123 42 = i32 S
section RD2
variable {L : Nat} {xs : Nat → Int32} {m V S : Nat} {sc : List Nat} {σ τ σ' τ' : tvS}
theorem nm_eq (h : LV m σ τ) {y y' : Int64} {w w' : Int32} (h1 : nmR m σ τ y w) (h2 : nmR m σ τ y' w') : y = y' ↔ w = w' := by
  obtain ⟨k, a1, a2, a3, a4⟩ := h1
  obtain ⟨k', b1, b2, b3, b4⟩ := h2
  rw [← a3, ← b3, ← a4, ← b4]
  exact h.2.2.2.2.2.1 k k' a1 b1 a2 b2
theorem VARS.nm (h : VARS m V σ τ) {v : Nat} (hv : v < V) : nmR m σ τ (rl σ 29 v) (rd τ 145 v) := by
  obtain ⟨k, a1, a2, a3, a4, a5, a6⟩ := h v hv
  exact ⟨k, a1, a2, a5.symm, a6.symm⟩
/-- the component looks up a name -/
theorem cvar_loop (d : Nat) (y : Int64) (v2 : Value) : ∀ (sc : List Nat) (x : Int32) (v3 : Value), chC σ sc x → rn L xs (d + 1) 67 3 [.ref 15, .long y, v2, v3, .int x] [] σ = some (.inl (some (.int (vRes (sc.find? fun v => decide (rl σ 29 v = y))))), σ) := by
  intro sc
  induction sc with
  | nil =>
    intro x v3 h
    have h : x = i32 (-1) := h
    rw [e67_3, h, i32_raw, c2_eq (by omega) (by omega) (by omega) (by omega), c_t (by omega), e67_33]
    rfl
  | cons v r ih =>
    intro x v3 h
    obtain ⟨h1, h2, h3, h4⟩ := h
    rw [e67_3, h1, i32_raw, c2_eq (by omega) (by omega) (by omega) (by omega), c_f (by omega), c_in (by omega) (by omega) (by omega), c_in (by omega) (by omega) (by omega), i32_ixn (by omega), lcmp_eq]
    by_cases q : rl σ 29 v = y
    · rw [if_pos q, e67_33, List.find?_cons_of_pos (by simpa using q)]
      rfl
    · rw [if_neg q, List.find?_cons_of_neg (by simpa using q)]
      exact ih (rd σ 32 v) _ h4
theorem cvar_ok (d : Nat) (y : Int64) {x : Int32} (h : chC σ sc x) : rn L xs (d + 1) 67 0 [.ref 15, .long y, jv, .int x, jv] [] σ = some (.inl (some (.int (vRes (sc.find? fun v => decide (rl σ 29 v = y))))), σ) := by
  rw [e67_0]
  exact cvar_loop d y jv sc x _ h
theorem find_rev {p : Nat → Bool} : ∀ (l : List Nat), (∀ u v, u ∈ l → v ∈ l → p u = true → p v = true → u = v) → l.reverse.find? p = l.find? p := by
  intro l
  induction l with
  | nil => intro _; rfl
  | cons a r ih =>
    intro h
    rw [List.reverse_cons, List.find?_append, ih (fun u v hu hv => h u v (List.mem_cons_of_mem _ hu) (List.mem_cons_of_mem _ hv))]
    cases e : p a with
    | true =>
      simp only [List.find?_cons, e]
      cases hf : r.find? p with
      | none => rfl
      | some u =>
        have hu := List.mem_of_find?_eq_some hf
        have hp := List.find?_some hf
        rw [h u a (List.mem_cons_of_mem _ hu) List.mem_cons_self hp e]
        rfl
    | false =>
      simp only [List.find?_cons, e, List.find?_nil]
      cases r.find? p with
      | none => rfl
      | some u => rfl
/-- the model looks up a name -/
theorem mvar_loop (d : Nat) (w : Int32) {l : List Nat} (h1 : rd τ 123 40 = i32 l.length) (h2 : l.length ≤ 40) (h3 : ∀ k, k < l.length → rd τ 148 k = i32 (l.getD k 0) ∧ l.getD k 0 < 3002) : ∀ (k i : Nat), i + k = l.length → rn L xs (d + 1) 305 2 [.ref 123, .int w, .int (i32 i)] [] τ = some (.inl (some (.int (vRes ((l.drop i).find? fun v => decide (rd τ 145 v = w))))), τ) := by
  intro k
  induction k with
  | zero =>
    intro i hi
    have hi : i = l.length := hi
    rw [e305_2, h1, c2_ge (by omega) (by omega) (by omega) (by omega), c_t (by omega), e305_38, hi, List.drop_length]
    rfl
  | succ k ih =>
    intro i hi
    have hlt : i < l.length := by omega
    obtain ⟨a1, a2⟩ := h3 i hlt
    have hd : l.drop i = l.getD i 0 :: l.drop (i + 1) := by
      rw [List.drop_eq_getElem_cons hlt, List.getD_eq_getElem?_getD, List.getElem?_eq_getElem hlt]
      rfl
    rw [e305_2, h1, c2_ge (by omega) (by omega) (by omega) (by omega), c_f (by omega), c_in (by omega) (by omega) (by omega), i32_ixn (by omega), a1, c_in (by omega) (by omega) (by omega), c_in (by omega) (by omega) (by omega), i32_ixn (by omega), ck_ne, cnd_not, hd]
    unfold pv_c2
    by_cases q : rd τ 145 (l.getD i 0) = w
    · rw [c_t q, List.find?_cons_of_pos (by simpa using q)]
      rfl
    · rw [c_f q, List.find?_cons_of_neg (by simpa using q), e305_32, i32_n1]
      exact ih (i + 1) (by omega)
theorem mvar_ok (h : LV m σ τ) (hv : VARS m V σ τ) (hs : SCP V S sc σ τ) (hV : V ≤ 3000) (d : Nat) {y : Int64} {w : Int32} (hn : nmR m σ τ y w) : rn L xs (d + 1) 305 0 [.ref 123, .int w, jv] [] τ = some (.inl (some (.int (vRes (sc.find? fun v => decide (rl σ 29 v = y))))), τ) := by
  obtain ⟨a1, a2, a3, a4, a5, a6, a7, a8⟩ := hs
  have hmem : ∀ k, k < sc.reverse.length → sc.reverse.getD k 0 ∈ sc := fun k hk => by
    rw [List.getD_eq_getElem?_getD, List.getElem?_eq_getElem hk]
    exact List.mem_reverse.mp (List.getElem_mem hk)
  have e := mvar_loop (L := L) (xs := xs) (τ := τ) d w (l := sc.reverse) (by rw [List.length_reverse]; exact a3) (by rw [List.length_reverse]; exact a4) (fun k hk => ⟨(a5 k (by rw [List.length_reverse] at hk; exact hk)).1, by have := a6 _ (hmem k hk); omega⟩) sc.reverse.length 0 (by omega)
  rw [e305_0]
  refine Eq.trans e ?_
  rw [List.drop_zero, find_rev sc (fun u v hu hv2 p1 p2 => by
    have p1 := of_decide_eq_true p1
    have p2 := of_decide_eq_true p2
    exact a7 u v hu hv2 ((nm_eq h (hv.nm (a6 u hu)) (hv.nm (a6 v hv2))).mpr (p1.trans p2.symm)))]
  have : (sc.find? fun v => decide (rd τ 145 v = w)) = sc.find? fun v => decide (rl σ 29 v = y) := by
    clear e a1 a2 a3 a4 a5 a7 hmem
    induction sc with
    | nil => rfl
    | cons a r ih =>
      have hd : decide (rd τ 145 a = w) = decide (rl σ 29 a = y) := decide_eq_decide.mpr (nm_eq h (hv.nm (a6 a List.mem_cons_self)) hn).symm
      rw [List.find?_cons, List.find?_cons, hd, ih (fun v hv => a6 v (List.mem_cons_of_mem _ hv))]
  rw [this]
/-! functions -/
def fIx (p : Nat → Bool) : Nat → Nat → Option Nat
  | 0, _ => none
  | k + 1, f => cond (p f) (some f) (fIx p k (f + 1))
theorem cfun_loop (d : Nat) (y : Int64) (v2 : Value) {K : Nat} (hK : K ≤ 21) : ∀ (k f : Nat), f + k = K → rn L xs (d + 1) 66 3 [.ref 15, .long y, v2, .int (i32 K), .int (i32 f)] [] σ = some (.inl (some (.int (vRes (fIx (fun f => decide (rl σ 42 f = y)) k f)))), σ) := by
  intro k
  induction k with
  | zero =>
    intro f hf
    rw [e66_3, c2_ge (by omega) (by omega) (by omega) (by omega), c_t (by omega), e66_27, c2_ge (by omega) (by omega) (by omega) (by omega), c_t (by omega), e66_38, e66_39]
    rfl
  | succ k ih =>
    intro f hf
    rw [e66_3, c2_ge (by omega) (by omega) (by omega) (by omega), c_f (by omega), c_in (by omega) (by omega) (by omega), i32_ixn (by omega), lcmp_eq]
    show _ = some (Sum.inl (some (Value.int (vRes (cond (decide (rl σ 42 f = y)) (some f) (fIx (fun f => decide (rl σ 42 f = y)) k (f + 1)))))), σ)
    by_cases q : rl σ 42 f = y
    · rw [if_pos q, decide_eq_true q, e66_27, c2_ge (by omega) (by omega) (by omega) (by omega), c_f (by omega), e66_39]
      rfl
    · rw [if_neg q, decide_eq_false q, i32_n1, ih (f + 1) (by omega)]
      rfl
theorem cfun_ok (d : Nat) (y : Int64) {K : Nat} (hK : K ≤ 21) : rn L xs (d + 1) 66 0 [.ref 15, .long y, jv, .int (i32 K), jv] [] σ = some (.inl (some (.int (vRes (fIx (fun f => decide (rl σ 42 f = y)) K 0)))), σ) := by
  rw [e66_0]
  exact cfun_loop d y jv hK K 0 (by omega)
theorem mfun_loop (d : Nat) (w : Int32) {fc g : Nat} (hc : rd τ 123 27 = i32 fc) (hg : rd τ 123 28 = i32 g) (hfc : fc ≤ 20) (hg2 : g ≤ 20) : ∀ (k f : Nat), f + k = min (g + 1) fc → rn L xs (d + 1) 302 2 [.ref 123, .int w, .int (i32 f)] [] τ = some (.inl (some (.int (vRes (fIx (fun f => decide (rd τ 138 f = w)) k f)))), τ) := by
  intro k
  induction k with
  | zero =>
    intro f hf
    rw [e302_2, hc, hg, c2_ge (by omega) (by omega) (by omega) (by omega)]
    by_cases q : fc ≤ f
    · rw [c_t (by omega), e302_36]; rfl
    · rw [c_f (by omega), c2_gt (by omega) (by omega) (by omega) (by omega), c_t (by omega), e302_36]; rfl
  | succ k ih =>
    intro f hf
    rw [e302_2, hc, hg, c2_ge (by omega) (by omega) (by omega) (by omega), c_f (by omega), c2_gt (by omega) (by omega) (by omega) (by omega), c_f (by omega), c_in (by omega) (by omega) (by omega), i32_ixn (by omega), ck_ne, cnd_not]
    show _ = some (Sum.inl (some (Value.int (vRes (cond (decide (rd τ 138 f = w)) (some f) (fIx (fun f => decide (rd τ 138 f = w)) k (f + 1)))))), τ)
    unfold pv_c2
    by_cases q : rd τ 138 f = w
    · rw [c_t q, decide_eq_true q]; rfl
    · rw [c_f q, decide_eq_false q, e302_30, i32_n1, ih (f + 1) (by omega)]
      rfl
theorem fIx_congr {p q : Nat → Bool} {K : Nat} (h : ∀ f, f < K → p f = q f) : ∀ k f, f + k = K → fIx p k f = fIx q k f := by
  intro k
  induction k with
  | zero => intro f _; rfl
  | succ k ih =>
    intro f hf
    show cond (p f) _ _ = cond (q f) _ _
    rw [h f (by omega), ih (f + 1) (by omega)]
theorem fIx_lt {p : Nat → Bool} : ∀ k f g, fIx p k f = some g → f ≤ g ∧ g < f + k ∧ p g = true := by
  intro k
  induction k with
  | zero => intro f g h; cases h
  | succ k ih =>
    intro f g h
    have h : cond (p f) (some f) (fIx p k (f + 1)) = some g := h
    cases e : p f with
    | true => rw [e] at h; cases h; exact ⟨Nat.le_refl _, by omega, e⟩
    | false => rw [e] at h; obtain ⟨a, b, c⟩ := ih (f + 1) g h; exact ⟨by omega, by omega, c⟩
theorem mfun_ok (h : LV m σ τ) {fc g : Nat} (hF : FUNS m fc σ τ) (hc : rd τ 123 27 = i32 fc) (hg : rd τ 123 28 = i32 g) (hg2 : g ≤ 20) (d : Nat) {y : Int64} {w : Int32} (hn : nmR m σ τ y w) : rn L xs (d + 1) 302 0 [.ref 123, .int w, jv] [] τ = some (.inl (some (.int (vRes (fIx (fun f => decide (rl σ 42 f = y)) (min (g + 1) fc) 0)))), τ) := by
  have e := mfun_loop (L := L) (xs := xs) d w hc hg hF.1 hg2 (min (g + 1) fc) 0 (by omega)
  rw [e302_0]
  refine Eq.trans e ?_
  rw [fIx_congr (K := min (g + 1) fc) (q := fun f => decide (rl σ 42 f = y)) (fun f hf => decide_eq_decide.mpr (nm_eq h (hF.2 f (by omega)) hn).symm) _ 0 (by omega)]
theorem known_ok {fc g : Nat} (hc : rd σ 15 38 = i32 fc) (hg : rd σ 62 7 = i32 g) (h1 : fc ≤ 20) (h2 : g ≤ 20) (d : Nat) : rn L xs (d + 2) 117 0 [.ref 62] [] σ = some (.inl (some (.int (i32 (min (g + 1) fc : Nat)))), σ) := by
  have e : rn L xs (d + 1) 439 0 [.int (i32 (g + 1 : Nat)), .int (i32 fc)] [] σ = some (.inl (some (.int (i32 (min (g + 1) fc : Nat)))), σ) := by
    rw [e439_0, c2_gt (by omega) (by omega) (by omega) (by omega)]
    by_cases q : fc < g + 1
    · rw [c_t (by omega), e439_9, e439_10, show min (g + 1) fc = fc by omega]
    · rw [c_f (by omega), e439_10, show min (g + 1) fc = g + 1 by omega]
  rw [e117_0 (d + 1), hg, i32_n1, hc, bI_ok e]
end RD2
