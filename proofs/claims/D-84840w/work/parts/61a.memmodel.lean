/-! RUNS, MODEL: what it has in memory -/
def szO (x : obD) : Nat := if x.kd = 3 then 1 + x.co.length + x.kp.length else 3
/-- the stack -/
def MSt (n : Nat) (sv : Nat → vaL) (τ : tvS) : Prop := rd τ 123 132 = i32 (n : Int) ∧ n ≤ 4000 ∧ ∀ k, k < n → rd τ 207 k = i32 ((sv k).1 : Int) ∧ rd τ 208 k = (sv k).2
/-- what is planned -/
def MCl : List (Nat × Nat × Nat) → tvS → Prop
  | [], _ => True
  | e :: K, τ => rd τ 209 K.length = i32 (e.1 : Int) ∧ rd τ 210 K.length = i32 (e.2.1 : Int) ∧ rd τ 211 K.length = i32 (e.2.2 : Int) ∧ MCl K τ
def MCt (K : List (Nat × Nat × Nat)) (τ : tvS) : Prop := rd τ 123 135 = i32 (K.length : Int) ∧ MCl K τ
/-- calls -/
def MFj (X : dyD) (j : Nat) (τ : tvS) : Prop := rd τ 215 j = i32 (X.ff j : Int) ∧ rd τ 214 j = (if 0 ≤ X.fj j then i32 (X.bs j : Int) else i32 (-1)) ∧ (∀ e, e < 64 → X.aV j e < 5000 → rd τ 212 (64 * j + e) = i32 (X.aV j e)) ∧ ∀ k, k < 64 → X.aR j k < 2000 → rd τ 213 (64 * j + k) = i32 (X.aR j k : Int)
def MFr (X : dyD) (i : Nat) (τ : tvS) : Prop := rd τ 123 139 = i32 (i : Int) ∧ rd τ 123 131 = i32 (i : Int) ∧ i ≤ 300 ∧ ∀ j, j ≤ i → MFj X j τ
/-- regions: function, number, objects, pages, words -/
abbrev rgY : Type := Nat → Nat × Nat × Nat × Nat × Nat
def MRg (Y : rgY) (ser : Nat → Nat) (nr : Nat) (τ : tvS) : Prop := rd τ 123 144 = i32 (nr : Int) ∧ nr ≤ 2000 ∧ ∀ r, r < nr → rd τ 216 r = i32 ((Y r).1 : Int) ∧ rd τ 217 r = i32 ((Y r).2.1 : Int) ∧ rd τ 218 r = i32 (ser r : Int) ∧ rd τ 219 r = i32 ((Y r).2.2.1 : Int) ∧ rd τ 220 r = i32 ((Y r).2.2.2.1 : Int) ∧ rd τ 221 r = i32 ((Y r).2.2.2.2 : Int)
/-- what is reached from the stack -/
def RCO (X : dyD) (n o : Nat) : Prop := ∃ k, k < n ∧ ROb X.hp X.no (X.sv k) o
/-- objects -/
def MOr (x : obD) (o : Nat) (τ : tvS) : Prop := rd τ 225 o = i32 (x.kd : Int) ∧ rd τ 226 o = i32 (szO x : Int) ∧ rd τ 227 o = i32 (x.gi : Int) ∧ rd τ 228 o = i32 (x.se : Int) ∧ rd τ 229 o = i32 (x.pt : Int) ∧ rd τ 231 o = i32 (x.co.length : Int)
def MOi (x : obD) (o a : Nat) (τ : tvS) : Prop := rd τ 230 o = i32 (a : Int) ∧ (∀ t v, x.co[t]? = some v → rd τ 234 (a + t) = i32 (v.1 : Int) ∧ rd τ 235 (a + t) = v.2) ∧ ∀ (t r s : Nat), x.kp[t]? = some (r, s) → rd τ 235 (a + x.co.length + t) = i32 (r : Int)
def MOb (X : dyD) (n : Nat) (oa : Nat → Nat) (fil : Nat) (τ : tvS) : Prop := rd τ 123 124 = i32 (X.no : Int) ∧ rd τ 123 164 = i32 (fil : Int) ∧ fil ≤ 200101 ∧ (∀ o, 1 ≤ o → o ≤ X.no → MOr (X.hp o) o τ ∧ (X.hp o).co.length + (X.hp o).kp.length ≤ 100 ∧ (X.hp o).se < 10000000 ∧ (X.hp o).pt < 5000) ∧ (∀ o, RCO X n o → MOi (X.hp o) o (oa o) τ ∧ oa o + (X.hp o).co.length + (X.hp o).kp.length ≤ fil) ∧ ∀ o o', RCO X n o → RCO X n o' → o < o' → oa o + (X.hp o).co.length + (X.hp o).kp.length ≤ oa o'
/-- counts: steps, collections, copied, pages used, most of them; regions that were made -/
def MCn (ct : Nat × Nat × Nat × Nat × Nat) (B : Nat) (τ : tvS) : Prop := (rd τ 123 122 = 1 ∨ rd τ 123 122 = 2) ∧ rd τ 123 123 = i32 (ct.1 : Int) ∧ rd τ 123 125 = i32 (ct.2.1 : Int) ∧ rd τ 123 126 = i32 (ct.2.2.1 : Int) ∧ rd τ 123 127 = i32 (ct.2.2.2.1 : Int) ∧ rd τ 123 128 = i32 (ct.2.2.2.2 : Int) ∧ (rd τ 123 129 = i32 ((B - 1 : Nat) : Int) ∧ 1 ≤ B) ∧ rd τ 123 130 = 0
/-- marks -/
def MMk (mt no : Nat) (τ : tvS) : Prop := rd τ 123 162 = i32 (mt : Int) ∧ ∀ o, 1 ≤ o → o ≤ no → ∃ z : Nat, rd τ 232 o = i32 (z : Int) ∧ z ≤ mt
section MODELMEM
variable {L : Nat} {xs : Nat → Int32} {τ τ' : tvS} {n nr i fil mt no : Nat} {sv : Nat → vaL} {K : List (Nat × Nat × Nat)} {X : dyD} {Y : rgY} {ser : Nat → Nat} {oa : Nat → Nat} {ct : Nat × Nat × Nat × Nat × Nat} {B : Nat} {S F : List Nat}
theorem MSt.fr (h : MSt n sv τ) (w : frM S F τ τ') (h1 : inL (123 :: S) 207 = false) (h2 : inL (123 :: S) 208 = false) (h3 : inL F 132 = false) : MSt n sv τ' := by
  obtain ⟨a, b, c⟩ := h
  exact ⟨by rw [w.2 132 h3]; exact a, b, fun k hk => by rw [w.rd h1, w.rd h2]; exact c k hk⟩
theorem MCl.fr : ∀ (K : List (Nat × Nat × Nat)), MCl K τ → (∀ j, j < K.length → rd τ' 209 j = rd τ 209 j ∧ rd τ' 210 j = rd τ 210 j ∧ rd τ' 211 j = rd τ 211 j) → MCl K τ' := by
  intro K
  induction K with
  | nil => intro _ _; exact trivial
  | cons e K ih =>
    intro h hw
    obtain ⟨a, b, c, d⟩ := h
    obtain ⟨w1, w2, w3⟩ := hw K.length (by show K.length < K.length + 1; omega)
    exact ⟨by rw [w1]; exact a, by rw [w2]; exact b, by rw [w3]; exact c, ih d (fun j hj => hw j (by show j < K.length + 1; omega))⟩
theorem MCt.fr (h : MCt K τ) (w : frM S F τ τ') (h1 : inL (123 :: S) 209 = false) (h2 : inL (123 :: S) 210 = false) (h3 : inL (123 :: S) 211 = false) (h4 : inL F 135 = false) : MCt K τ' :=
  ⟨by rw [w.2 135 h4]; exact h.1, MCl.fr K h.2 (fun j _ => ⟨w.rd h1 j, w.rd h2 j, w.rd h3 j⟩)⟩
theorem MFr.fr (h : MFr X i τ) (w : frM S F τ τ') (h1 : inL (123 :: S) 212 = false) (h2 : inL (123 :: S) 213 = false) (h3 : inL (123 :: S) 214 = false) (h4 : inL (123 :: S) 215 = false) (h5 : inL F 139 = false) (h6 : inL F 131 = false) : MFr X i τ' := by
  obtain ⟨a, b, c, d⟩ := h
  refine ⟨by rw [w.2 139 h5]; exact a, by rw [w.2 131 h6]; exact b, c, fun j hj => ?_⟩
  obtain ⟨d1, d2, d3, d4⟩ := d j hj
  exact ⟨by rw [w.rd h4]; exact d1, by rw [w.rd h3]; exact d2, fun e he hv => by rw [w.rd h1]; exact d3 e he hv, fun k hk hv => by rw [w.rd h2]; exact d4 k hk hv⟩
theorem MRg.fr (h : MRg Y ser nr τ) (w : frM S F τ τ') (h1 : inL (123 :: S) 216 = false) (h2 : inL (123 :: S) 217 = false) (h3 : inL (123 :: S) 218 = false) (h4 : inL (123 :: S) 219 = false) (h5 : inL (123 :: S) 220 = false) (h6 : inL (123 :: S) 221 = false) (h7 : inL F 144 = false) : MRg Y ser nr τ' := by
  obtain ⟨a, b, c⟩ := h
  exact ⟨by rw [w.2 144 h7]; exact a, b, fun r hr => by rw [w.rd h1, w.rd h2, w.rd h3, w.rd h4, w.rd h5, w.rd h6]; exact c r hr⟩
theorem MOb.fr (h : MOb X n oa fil τ) (w : frM S F τ τ') (h1 : inL (123 :: S) 225 = false ∧ inL (123 :: S) 226 = false ∧ inL (123 :: S) 227 = false ∧ inL (123 :: S) 228 = false ∧ inL (123 :: S) 229 = false ∧ inL (123 :: S) 230 = false ∧ inL (123 :: S) 231 = false ∧ inL (123 :: S) 234 = false ∧ inL (123 :: S) 235 = false) (h2 : inL F 124 = false ∧ inL F 164 = false) : MOb X n oa fil τ' := by
  obtain ⟨a, b, c, d, e, f⟩ := h
  obtain ⟨q1, q2, q3, q4, q5, q6, q7, q8, q9⟩ := h1
  refine ⟨by rw [w.2 124 h2.1]; exact a, by rw [w.2 164 h2.2]; exact b, c, fun o o1 o2 => ?_, fun o ho => ?_, f⟩
  · obtain ⟨g, g'⟩ := d o o1 o2
    refine ⟨?_, g'⟩
    unfold MOr
    rw [w.rd q1, w.rd q2, w.rd q3, w.rd q4, w.rd q5, w.rd q7]; exact g
  · obtain ⟨⟨g1, g2, g3⟩, g4⟩ := e o ho
    exact ⟨⟨by rw [w.rd q6]; exact g1, fun t v hv => by rw [w.rd q8, w.rd q9]; exact g2 t v hv, fun t r s hk => by rw [w.rd q9]; exact g3 t r s hk⟩, g4⟩
theorem MCn.fr (h : MCn ct B τ) (w : frM S F τ τ') (h1 : inL F 122 = false ∧ inL F 123 = false ∧ inL F 125 = false ∧ inL F 126 = false ∧ inL F 127 = false ∧ inL F 128 = false ∧ inL F 129 = false ∧ inL F 130 = false) : MCn ct B τ' := by
  obtain ⟨q1, q2, q3, q4, q5, q6, q7, q8⟩ := h1
  unfold MCn
  rw [w.2 122 q1, w.2 123 q2, w.2 125 q3, w.2 126 q4, w.2 127 q5, w.2 128 q6, w.2 129 q7, w.2 130 q8]; exact h
theorem MMk.fr (h : MMk mt no τ) (w : frM S F τ τ') (h1 : inL (123 :: S) 232 = false) (h2 : inL F 162 = false) : MMk mt no τ' := by
  obtain ⟨a, b⟩ := h
  exact ⟨by rw [w.2 162 h2]; exact a, fun o o1 o2 => by rw [w.rd h1]; exact b o o1 o2⟩
/-- one thing more is planned -/
theorem plan_m (h : MCt K τ) (hl : K.length < 130000) (e : Nat × Nat × Nat) (d : Nat) : ∃ τ', rn L xs (d + 1) 397 0 [.ref 123, .int (i32 (e.1 : Int)), .int (i32 (e.2.1 : Int)), .int (i32 (e.2.2 : Int))] [] τ = some (.inl none, τ') ∧ MCt (e :: K) τ' ∧ frM [209, 210, 211] [135] τ τ' := by
  obtain ⟨h1, h2⟩ := h
  refine ⟨wr (wr (wr (wr τ 209 K.length (i32 (e.1 : Int))) 210 K.length (i32 (e.2.1 : Int))) 211 K.length (i32 (e.2.2 : Int))) 123 135 (i32 ((K.length + 1 : Nat) : Int)), ?_, ⟨by rw [wr_self]; rfl, ?_, ?_, ?_, MCl.fr K h2 (fun j hj => ⟨?_, ?_, ?_⟩)⟩, (((frM_wr rfl (by decide)).trans (frM_wr rfl (by decide))).trans (frM_wr rfl (by decide))).trans (frM_w rfl)⟩
  · rw [e397_0, h1, c_in (by omega) (by omega) (by omega), c_in (by omega) (by omega) (by omega), c_in (by omega) (by omega) (by omega), i32_ixn (by omega), i32_up]
  · rw [wr_nek (by decide), wr_nek (by decide), wr_nek (by decide), wr_self]
  · rw [wr_nek (by decide), wr_nek (by decide), wr_self]
  · rw [wr_nek (by decide), wr_self]
  · rw [wr_nek (by decide), wr_nek (by decide), wr_nek (by decide), wr_nei (by omega)]
  · rw [wr_nek (by decide), wr_nek (by decide), wr_nei (by omega), wr_nek (by decide)]
  · rw [wr_nek (by decide), wr_nei (by omega), wr_nek (by decide), wr_nek (by decide)]
/-- one value more -/
theorem value_m (h : MSt n sv τ) (hn : n < 4000) (v : vaL) (d : Nat) : ∃ τ', rn L xs (d + 1) 413 0 [.ref 123, .int (i32 (v.1 : Int)), .int v.2] [] τ = some (.inl (some (.int 1)), τ') ∧ MSt (n + 1) (uq sv n v) τ' ∧ frM [207, 208] [132] τ τ' := by
  obtain ⟨h1, h2, h3⟩ := h
  refine ⟨wr (wr (wr τ 207 n (i32 (v.1 : Int))) 208 n v.2) 123 132 (i32 ((n + 1 : Nat) : Int)), ?_, ⟨wr_self _ _ _ _, by omega, fun k hk => ?_⟩, ((frM_wr rfl (by decide)).trans (frM_wr rfl (by decide))).trans (frM_w rfl)⟩
  · rw [e413_0, h1, show (4000 : Int32) = i32 4000 from rfl, c2_ne (by omega) (by omega) (by omega) (by omega), c_t (by omega), e413_17, h1, c_in (by omega) (by omega) (by omega), c_in (by omega) (by omega) (by omega), i32_ixn (by omega), i32_up]
  · by_cases q : k = n
    · subst q
      rw [uq_self, wr_nek (by decide), wr_nek (by decide), wr_self, wr_nek (by decide), wr_self]
      exact ⟨rfl, rfl⟩
    · rw [uq_ne q, wr_nek (by decide), wr_nek (by decide), wr_nei q, wr_nek (by decide), wr_nei q, wr_nek (by decide)]
      exact h3 k (by omega)
/-- it is over -/
def MEn (how : Nat) (τ τ' : tvS) : Prop := frM [] [122, 132, 144, 127, 131, 135] τ τ' ∧ rd τ' 123 122 = i32 (how : Int) ∧ rd τ' 123 132 = 0 ∧ rd τ' 123 144 = 0 ∧ rd τ' 123 127 = 0 ∧ rd τ' 123 131 = 0 ∧ rd τ' 123 135 = 0
theorem end_m (how : Nat) (d : Nat) : ∃ τ', rn L xs (d + 1) 395 0 [.ref 123, .int (i32 (how : Int))] [] τ = some (.inl none, τ') ∧ MEn how τ τ' := by
  refine ⟨_, e395_0 d _ _, (((((frM_w rfl).trans (frM_w rfl)).trans (frM_w rfl)).trans (frM_w rfl)).trans (frM_w rfl)).trans (frM_w rfl), ?_, ?_, ?_, ?_, ?_, ?_⟩
  · rw [wr_nei (by decide), wr_nei (by decide), wr_nei (by decide), wr_nei (by decide), wr_nei (by decide), wr_self]
  · rw [wr_nei (by decide), wr_nei (by decide), wr_nei (by decide), wr_nei (by decide), wr_self]
  · rw [wr_nei (by decide), wr_nei (by decide), wr_nei (by decide), wr_self]
  · rw [wr_nei (by decide), wr_nei (by decide), wr_self]
  · rw [wr_nei (by decide), wr_self]
  · rw [wr_self]
/-- it is full -/
theorem value_full (h : MSt n sv τ) (hn : n = 4000) (x1 x2 : Int32) (d : Nat) : ∃ τ', rn L xs (d + 2) 413 0 [.ref 123, .int x1, .int x2] [] τ = some (.inl (some (.int 0)), τ') ∧ MEn 4 τ τ' := by
  obtain ⟨h1, h2, h3⟩ := h
  obtain ⟨s, a1, a2⟩ := end_m (L := L) (xs := xs) (τ := τ) 4 d
  refine ⟨s, ?_, a2⟩
  have a1 : rn L xs (d + 1) 395 0 [.ref 123, .int 4] [] τ = some (.inl none, s) := a1
  rw [e413_0 (d + 1), h1, show (4000 : Int32) = i32 4000 from rfl, c2_ne (by omega) (by omega) (by omega) (by omega), c_f (by omega), bV_ok a1]
end MODELMEM
