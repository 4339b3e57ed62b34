/-! RUNS, BOTH: where the component is, by what the model has planned -/
/-- what stands behind a part's inside: so many values slide, it goes on elsewhere -/
def TLc (R : Nat → Int32) (a sl e : Nat) : Prop := (sl = 0 ∧ (a = e ∨ (a + 1 < e ∧ R a = 21 ∧ R (a + 1) = i32 (e : Int)))) ∨ (sl = 1 ∧ R a = 23 ∧ R (a + 1) = 1 ∧ e = a + 2) ∨ (sl = 2 ∧ a + 3 < e ∧ R a = 23 ∧ R (a + 1) = 2 ∧ R (a + 2) = 21 ∧ R (a + 3) = i32 (e : Int))
/-- regions of a part go -/
def LVc (rg : rgD) (R : Nat → Int32) (f p e b : Nat) : Prop := (ownN rg f p = [] ∧ b = e) ∨ (ownN rg f p ≠ [] ∧ R e = 2 ∧ R (e + 1) = i32 ((ownN rg f p).length : Int) ∧ b = e + 2)
def AT (D : pgD) (rg : rgD) (cd : cdD) (R : Nat → Int32) (cs : Nat) (ff bk : Nat → Nat) : List (Nat × Nat × Nat) → Nat → Nat → Nat → Prop
  | [], i, a, _ => i = 0 ∧ a < cs ∧ R a = 27
  | (w, p, b) :: K, i, a, n =>
    (w = 0 ∧ ∃ d b', CA D rg cd R (ff i) d p a b' ∧ AT D rg cd R cs ff bk K i b' (n + 1)) ∨
    (w = 7 ∧ ∃ sl e b', TLc R a sl e ∧ n = b + 1 + sl ∧ LVc rg R (ff i) p e b' ∧ AT D rg cd R cs ff bk K i b' (b + 1)) ∨
    (w = 8 ∧ a < cs ∧ R a = 26 ∧ ∃ (i0 p' b0 : Nat) (K' : List (Nat × Nat × Nat)), i = i0 + 1 ∧ K = (7, p', b0) :: K' ∧ AT D rg cd R cs ff bk K i0 (bk i0) (b0 + 1)) ∨
    (w = 1 ∧ (D.K p = 4 ∨ D.K p = 16) ∧ R a = (if D.K p = 4 then 7 else 8) ∧ R (a + 1) = i32 (rg.nu p 0 : Int) ∧ AT D rg cd R cs ff bk K i (a + 2) (n - 1)) ∨
    (w = 1 ∧ (D.K p = 5 ∨ D.K p = 6 ∨ (8 ≤ D.K p ∧ D.K p ≤ 15)) ∧ R a = (if D.K p = 5 then 10 else if D.K p = 6 then 11 else i32 ((4 + D.K p : Nat) : Int)) ∧ AT D rg cd R cs ff bk K i (a + 1) (if D.K p = 5 ∨ D.K p = 6 then n else n - 1)) ∨
    (w = 2 ∧ ∃ k0 k1 k2 d y e, D.kd p = [k0, k1, k2] ∧ R a = 20 ∧ R (a + 1) = i32 ((y + 2 : Nat) : Int) ∧ CA D rg cd R (ff i) d k1 (a + 2) y ∧ CA D rg cd R (ff i) d k2 (y + 2) e ∧ AT D rg cd R cs ff bk K i y n ∧ AT D rg cd R cs ff bk K i e n) ∨
    (w = 3 ∧ ∃ k0 k1 d y, D.kd p = [k0, k1] ∧ CA D rg cd R (ff i) d k1 a y ∧ AT D rg cd R cs ff bk K i y (n + 1)) ∨
    (w = 4 ∧ ∃ k0 k1 k2 d y e, D.kd p = [k0, k1, k2] ∧ R a = 22 ∧ R (a + 1) = i32 ((y + 4 : Nat) : Int) ∧ CA D rg cd R (ff i) d k2 (a + 2) y ∧ CA D rg cd R (ff i) d k1 (y + 4) e ∧ AT D rg cd R cs ff bk K i y (n + 2) ∧ AT D rg cd R cs ff bk K i e n) ∨
    (w = 5 ∧ R a = 24 ∧ R (a + 1) = i32 (D.vl p : Int) ∧ R (a + 2) = i32 ((rg.gl (D.vl p)).length : Int) ∧ (∀ j, j < (rg.gl (D.vl p)).length → R (a + 3 + 2 * j) = i32 (handN D rg (ff i) p j : Int) ∧ R (a + 4 + 2 * j) = i32 ((rg.gl (D.vl p)).getD j 0 : Nat)) ∧ AT D rg cd R cs ff bk K i (a + 3 + 2 * (rg.gl (D.vl p)).length) (n + 1 - (D.kd p).length)) ∨
    (w = 6 ∧ R a = 25 ∧ AT D rg cd R cs ff bk K i (a + 1) (n - 1))
/-- entries of kinds: parts that are under way, calls, what is still to be made -/
def nE : List (Nat × Nat × Nat) → Nat
  | [] => 0
  | e :: K => (if e.1 = 7 then 1 else 0) + nE K
def nR : List (Nat × Nat × Nat) → Nat
  | [] => 0
  | e :: K => (if e.1 = 8 then 1 else 0) + nR K
def opN : List (Nat × Nat × Nat) → Nat
  | [] => 0
  | e :: K => (if 1 ≤ e.1 ∧ e.1 ≤ 6 then 1 else 0) + opN K
/-- what is left to do but beginnings -/
def wtK : List (Nat × Nat × Nat) → Nat
  | [] => 0
  | e :: K => (if e.1 = 0 then 0 else if e.1 = 5 ∨ e.1 = 6 then 3 else 1) + wtK K
/-- parts that wait stand with what comes behind them -/
def KGr (D : pgD) : List (Nat × Nat × Nat) → Nat → Nat → Prop
  | [], c, t => c ≤ t
  | (w, p, _) :: K, c, t => (w = 0 ∧ KGr D K (c + 1) t) ∨ (w = 7 ∧ c ≤ t ∧ KGr D K 0 0) ∨ (w = 8 ∧ c ≤ t ∧ (∃ (p' b : Nat) (K' : List (Nat × Nat × Nat)), K = (7, p', b) :: K') ∧ KGr D K 0 0) ∨ (1 ≤ w ∧ w ≤ 6 ∧ c + 1 ≤ wkN D w p + t ∧ (∃ (b : Nat) (K' : List (Nat × Nat × Nat)), K = (7, p, b) :: K') ∧ KGr D K 0 0)
/-- lexemes of a call besides those of one of its parts -/
def cwt (D : pgD) (p : Nat) : Nat := if D.K p = 3 then 2 * (D.kd p).length + 1 else 0
def xS (D : pgD) : List (Nat × Nat × Nat) → Nat
  | [] => 0
  | e :: K => (if e.1 = 5 then (D.kd e.2.1).length - 2 else 0) + xS D K
/-- of the call at hand -/
def lu (D : pgD) : List (Nat × Nat × Nat) → Nat
  | [] => 0
  | e :: K => if e.1 = 8 then 0 else (if e.1 = 7 then cwt D e.2.1 else 0) + lu D K
def okF (D : pgD) (M : Nat) : List (Nat × Nat × Nat) → Prop
  | [] => True
  | e :: K => (e.1 = 8 → lu D K ≤ M) ∧ okF D M K
def SPI (D : pgD) (W : Nat → Nat) (M : Nat) : List (Nat × Nat × Nat) → Prop
  | [] => True
  | e :: K => (e.1 = 0 ∨ e.1 = 7 → lu D K + W e.2.1 ≤ M) ∧ SPI D W M K
/-- what comes behind parts is of its kind -/
def EOK (D : pgD) (K : List (Nat × Nat × Nat)) : Prop := ∀ e, e ∈ K → (1 ≤ e.1 → e.1 ≤ 6 → e.1 ≠ 5 → wkN D e.1 e.2.1 ≤ 2) ∧ (e.1 = 5 → D.K e.2.1 = 3 ∧ (D.kd e.2.1).length ≤ 5)
section CONTROL
variable {D : pgD} {rg : rgD} {cd : cdD} {R : Nat → Int32} {cs : Nat} {ff ff' bk bk' : Nat → Nat} {K : List (Nat × Nat × Nat)} {M : Nat} {W : Nat → Nat}
theorem TLc.le {a sl e : Nat} (h : TLc R a sl e) : a ≤ e := by rcases h with ⟨_, h | ⟨h, _⟩⟩ | ⟨_, _, _, h⟩ | ⟨_, h, _⟩ <;> omega
theorem LVc.le {f p e b : Nat} (h : LVc rg R f p e b) : e ≤ b := by rcases h with ⟨_, h⟩ | ⟨_, _, _, h⟩ <;> omega
theorem AT.lt : ∀ (K : List (Nat × Nat × Nat)) (i a n : Nat), AT D rg cd R cs ff bk K i a n → a < cs := by
  intro K
  induction K with
  | nil => intro i a n h; exact h.2.1
  | cons x K ih =>
    obtain ⟨w, p, b⟩ := x
    intro i a n h
    rcases h with ⟨_, d, b', h1, h2⟩ | ⟨_, sl, e, b', h1, h2, h3, h4⟩ | ⟨_, h1, _⟩ | ⟨_, _, _, _, h1⟩ | ⟨_, _, _, h1⟩ | ⟨_, k0, k1, k2, d, y, e, _, _, _, h1, h2, h3, h4⟩ | ⟨_, k0, k1, d, y, _, h1, h2⟩ | ⟨_, k0, k1, k2, d, y, e, _, _, _, h1, h2, h3, h4⟩ | ⟨_, _, _, _, _, h1⟩ | ⟨_, _, h1⟩
    · have := CA.lt _ _ _ _ h1; have := ih _ _ _ h2; omega
    · have := h1.le; have := h3.le; have := ih _ _ _ h4; omega
    · exact h1
    · have := ih _ _ _ h1; omega
    · have := ih _ _ _ h1; omega
    · have := CA.lt _ _ _ _ h1; have := ih _ _ _ h3; omega
    · have := CA.lt _ _ _ _ h1; have := ih _ _ _ h2; omega
    · have := CA.lt _ _ _ _ h1; have := ih _ _ _ h3; omega
    · have := ih _ _ _ h1; omega
    · have := ih _ _ _ h1; omega
theorem AT.congr : ∀ (K : List (Nat × Nat × Nat)) (i a n : Nat), (∀ j, j ≤ i → ff' j = ff j) → (∀ j, j < i → bk' j = bk j) → AT D rg cd R cs ff bk K i a n → AT D rg cd R cs ff' bk' K i a n := by
  intro K
  induction K with
  | nil => intro i a n _ _ h; exact h
  | cons x K ih =>
    obtain ⟨w, p, b⟩ := x
    intro i a n hf hb h
    have ef := hf i (Nat.le_refl _)
    rcases h with ⟨h0, d, b', h1, h2⟩ | ⟨h0, sl, e, b', h1, h2, h3, h4⟩ | ⟨h0, h1, h2, i0, p', b0, K', h3, h4, h5⟩ | ⟨h0, h1, h2, h3, h4⟩ | ⟨h0, h1, h2, h3⟩ | ⟨h0, k0, k1, k2, d, y, e, g1, g2, g3, h1, h2, h3, h4⟩ | ⟨h0, k0, k1, d, y, g1, h1, h2⟩ | ⟨h0, k0, k1, k2, d, y, e, g1, g2, g3, h1, h2, h3, h4⟩ | ⟨h0, g1, g2, g3, g4, h1⟩ | ⟨h0, g1, h1⟩
    · exact .inl ⟨h0, d, b', by rw [ef]; exact h1, ih _ _ _ hf hb h2⟩
    · exact .inr (.inl ⟨h0, sl, e, b', h1, h2, by rw [ef]; exact h3, ih _ _ _ hf hb h4⟩)
    · exact .inr (.inr (.inl ⟨h0, h1, h2, i0, p', b0, K', h3, h4, by rw [hb i0 (by omega)]; exact ih _ _ _ (fun j hj => hf j (by omega)) (fun j hj => hb j (by omega)) h5⟩))
    · exact .inr (.inr (.inr (.inl ⟨h0, h1, h2, h3, ih _ _ _ hf hb h4⟩)))
    · exact .inr (.inr (.inr (.inr (.inl ⟨h0, h1, h2, ih _ _ _ hf hb h3⟩))))
    · exact .inr (.inr (.inr (.inr (.inr (.inl ⟨h0, k0, k1, k2, d, y, e, g1, g2, g3, by rw [ef]; exact h1, by rw [ef]; exact h2, ih _ _ _ hf hb h3, ih _ _ _ hf hb h4⟩)))))
    · exact .inr (.inr (.inr (.inr (.inr (.inr (.inl ⟨h0, k0, k1, d, y, g1, by rw [ef]; exact h1, ih _ _ _ hf hb h2⟩))))))
    · exact .inr (.inr (.inr (.inr (.inr (.inr (.inr (.inl ⟨h0, k0, k1, k2, d, y, e, g1, g2, g3, by rw [ef]; exact h1, by rw [ef]; exact h2, ih _ _ _ hf hb h3, ih _ _ _ hf hb h4⟩)))))))
    · exact .inr (.inr (.inr (.inr (.inr (.inr (.inr (.inr (.inl ⟨h0, g1, g2, g3, by rw [ef]; exact g4, ih _ _ _ hf hb h1⟩))))))))
    · exact .inr (.inr (.inr (.inr (.inr (.inr (.inr (.inr (.inr ⟨h0, g1, ih _ _ _ hf hb h1⟩))))))))
/-- parts side by side, and what comes behind them -/
theorem AT.kids {d : Nat} : ∀ (l : List Nat) (K : List (Nat × Nat × Nat)) (i a x n : Nat), KCH (CA D rg cd R (ff i) d) l a x → AT D rg cd R cs ff bk K i x (n + l.length) → AT D rg cd R cs ff bk (l.map (fun k => (0, k, 0)) ++ K) i a n := by
  intro l
  induction l with
  | nil => intro K i a x n h g; have h : a = x := h; subst h; exact g
  | cons k l ih =>
    intro K i a x n h g
    obtain ⟨y, h1, h2⟩ := h
    refine .inl ⟨rfl, d, y, h1, ih K i y x (n + 1) h2 ?_⟩
    rw [show n + 1 + l.length = n + (k :: l).length by show _ = n + (l.length + 1); omega]
    exact g
theorem KGr.down : ∀ (K : List (Nat × Nat × Nat)) (c t : Nat), KGr D K (c + 1) (t + 1) → KGr D K c t := by
  intro K
  induction K with
  | nil => intro c t h; have h : c + 1 ≤ t + 1 := h; show c ≤ t; omega
  | cons x K ih =>
    obtain ⟨w, p, b⟩ := x
    intro c t h
    rcases h with ⟨h0, h1⟩ | ⟨h0, h1, h2⟩ | ⟨h0, h1, h2, h3⟩ | ⟨h0, h1, h2, h3, h4⟩
    · exact .inl ⟨h0, ih _ _ h1⟩
    · exact .inr (.inl ⟨h0, by omega, h2⟩)
    · exact .inr (.inr (.inl ⟨h0, by omega, h2, h3⟩))
    · exact .inr (.inr (.inr ⟨h0, h1, by omega, h3, h4⟩))
theorem KGr.up : ∀ (K : List (Nat × Nat × Nat)) (c t : Nat), KGr D K c t → KGr D K c (t + 1) := by
  intro K
  induction K with
  | nil => intro c t h; have h : c ≤ t := h; show c ≤ t + 1; omega
  | cons x K ih =>
    obtain ⟨w, p, b⟩ := x
    intro c t h
    rcases h with ⟨h0, h1⟩ | ⟨h0, h1, h2⟩ | ⟨h0, h1, h2, h3⟩ | ⟨h0, h1, h2, h3, h4⟩
    · exact .inl ⟨h0, ih _ _ h1⟩
    · exact .inr (.inl ⟨h0, by omega, h2⟩)
    · exact .inr (.inr (.inl ⟨h0, by omega, h2, h3⟩))
    · exact .inr (.inr (.inr ⟨h0, h1, by omega, h3, h4⟩))
theorem KGr.kids : ∀ (l : List Nat) (K : List (Nat × Nat × Nat)) (c t : Nat), KGr D K (c + l.length) t → KGr D (l.map (fun k => (0, k, 0)) ++ K) c t := by
  intro l
  induction l with
  | nil => intro K c t h; exact h
  | cons k l ih =>
    intro K c t h
    refine .inl ⟨rfl, ih K (c + 1) t ?_⟩
    rw [show c + 1 + l.length = c + (k :: l).length by show _ = c + (l.length + 1); omega]
    exact h
/-- how long it may be -/
theorem KGr.len (hK : EOK D K) : ∀ (c t : Nat), KGr D K c t → K.length + c + nR K ≤ 3 * nE K + xS D K + t ∧ ((∃ (p b : Nat) (K' : List (Nat × Nat × Nat)), K = (7, p, b) :: K') → K.length + c + nR K + 2 ≤ 3 * nE K + xS D K + t) := by
  induction K with
  | nil => intro c t h; have h : c ≤ t := h; exact ⟨by show 0 + c + 0 ≤ 3 * 0 + 0 + t; omega, fun ⟨p, b, K', e⟩ => by cases e⟩
  | cons x K ih =>
    obtain ⟨w, p, b⟩ := x
    have ih := ih (fun e he => hK e (List.mem_cons_of_mem _ he))
    intro c t h
    have el : ((w, p, b) :: K).length = K.length + 1 := rfl
    have eE : nE ((w, p, b) :: K) = (if w = 7 then 1 else 0) + nE K := rfl
    have eR : nR ((w, p, b) :: K) = (if w = 8 then 1 else 0) + nR K := rfl
    have eX : xS D ((w, p, b) :: K) = (if w = 5 then (D.kd p).length - 2 else 0) + xS D K := rfl
    rw [el, eE, eR, eX]
    rcases h with ⟨h0, h1⟩ | ⟨h0, h1, h2⟩ | ⟨h0, h1, h2, h3⟩ | ⟨h0, h1, h2, ⟨b', K', h3⟩, h4⟩
    · subst h0
      rw [if_neg (by decide), if_neg (by decide), if_neg (by decide)]
      have := (ih (c + 1) t h1).1
      exact ⟨by omega, fun ⟨p', b', K', e⟩ => by cases e⟩
    · subst h0
      rw [if_pos rfl, if_neg (by decide), if_neg (by decide)]
      have := (ih 0 0 h2).1
      exact ⟨by omega, fun _ => by omega⟩
    · subst h0
      rw [if_neg (show ¬ (8 : Nat) = 7 by decide), if_pos (show (8 : Nat) = 8 from rfl), if_neg (show ¬ (8 : Nat) = 5 by decide)]
      have := (ih 0 0 h3).2 h2
      exact ⟨by omega, fun ⟨p', b', K', e⟩ => by cases e⟩
    · have := (ih 0 0 h4).2 ⟨p, b', K', h3⟩
      have hwk : w ≠ 5 → wkN D w p ≤ 2 := (hK (w, p, b) List.mem_cons_self).1 h0 h1
      rw [if_neg (show ¬ w = 7 by omega), if_neg (show ¬ w = 8 by omega)]
      refine ⟨?_, fun ⟨p', b'', K'', e⟩ => by injection e with e1 e2; injection e1 with e1 e3; omega⟩
      by_cases w5 : w = 5
      · have e5 : wkN D w p = (D.kd p).length := by unfold wkN; rw [if_neg (by omega)]
        rw [if_pos w5]; omega
      · rw [if_neg w5]
        have := hwk w5
        omega
theorem xS_le (hK : EOK D K) : ∀ (c t : Nat), KGr D K c t → okF D M K → 11 * xS D K ≤ 3 * (lu D K + M * nR K) ∧ ∀ (p b : Nat) (K' : List (Nat × Nat × Nat)), K = (7, p, b) :: K' → 11 * xS D K + 3 * cwt D p ≤ 3 * (lu D K + M * nR K) := by
  induction K with
  | nil => intro c t _ _; exact ⟨Nat.zero_le _, fun p b K' e => by cases e⟩
  | cons x K ih =>
    obtain ⟨w, p, b⟩ := x
    have ih := ih (fun e he => hK e (List.mem_cons_of_mem _ he))
    intro c t h hF
    have eR : nR ((w, p, b) :: K) = (if w = 8 then 1 else 0) + nR K := rfl
    have eX : xS D ((w, p, b) :: K) = (if w = 5 then (D.kd p).length - 2 else 0) + xS D K := rfl
    have eL : lu D ((w, p, b) :: K) = if w = 8 then 0 else (if w = 7 then cwt D p else 0) + lu D K := rfl
    rw [eR, eX, eL]
    obtain ⟨hF1, hF2⟩ := hF
    rcases h with ⟨h0, h1⟩ | ⟨h0, h1, h2⟩ | ⟨h0, h1, h2, h3⟩ | ⟨h0, h1, h2, ⟨b', K', h3⟩, h4⟩
    · subst h0
      rw [if_neg (by decide), if_neg (by decide), if_neg (by decide), if_neg (by decide), Nat.zero_add, Nat.zero_add, Nat.zero_add]
      exact ⟨(ih _ _ h1 hF2).1, fun p' b' K' e => by cases e⟩
    · subst h0
      rw [if_neg (show ¬ (7 : Nat) = 8 by decide), if_neg (show ¬ (7 : Nat) = 5 by decide), if_neg (show ¬ (7 : Nat) = 8 by decide), if_pos (show (7 : Nat) = 7 from rfl), Nat.zero_add, Nat.zero_add]
      have := (ih _ _ h2 hF2).1
      refine ⟨by omega, fun p' b' K' e => ?_⟩
      injection e with e1 e2
      injection e1 with e1 e3
      injection e3 with e3 e4
      rw [← e3]; omega
    · subst h0
      rw [if_pos (show (8 : Nat) = 8 from rfl), if_neg (show ¬ (8 : Nat) = 5 by decide), if_pos (show (8 : Nat) = 8 from rfl), Nat.zero_add, Nat.zero_add]
      have h5 := (ih _ _ h3 hF2).1
      have h6 := hF1 rfl
      refine ⟨?_, fun p' b' K' e => by cases e⟩
      rw [Nat.mul_add, Nat.mul_one]
      omega
    · rw [if_neg (show ¬ w = 8 by omega), if_neg (show ¬ w = 8 by omega), if_neg (show ¬ w = 7 by omega), Nat.zero_add, Nat.zero_add]
      have hh := (ih _ _ h4 hF2)
      refine ⟨?_, fun p' b'' K'' e => by injection e with e1 e2; injection e1 with e1 e3; omega⟩
      by_cases w5 : w = 5
      · obtain ⟨k3, k4⟩ : D.K p = 3 ∧ (D.kd p).length ≤ 5 := (hK (w, p, b) List.mem_cons_self).2 w5
        have h7 := hh.2 p b' K' h3
        have ec : cwt D p = 2 * (D.kd p).length + 1 := by unfold cwt; rw [if_pos k3]
        rw [if_pos w5]; omega
      · rw [if_neg w5, Nat.zero_add]; exact hh.1
end CONTROL
