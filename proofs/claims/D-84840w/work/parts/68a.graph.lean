/-! WHAT WAS FOUND, plainly: the graph of types -/
/-- classes, by their roots; an arrow holds numbers, too -/
def tgT (T : tyJ) : tgD := (fun c => (yG T).1 c, fun c => yC T ((yG T).2.1 c), fun c => yC T ((yG T).2.2 c), fun c x => (yG T).1 x = 1 ∨ ∃ u, yH T c u ∧ yC T u = x)
/-- types of parts, of variables, of numbers -/
def tsT (T : tyJ) (σ : tvS) : tsD := (tgT T, fun p => yC T (oT σ p), fun v => yC T (vT σ v), fun f k => yC T (ix (rd σ 81 (ix (rd σ 79 f) + (k - 1)))))
/-- two graphs are one on a closed set -/
def EXg (R : Nat → Prop) (g g' : tgD) : Prop := ∀ c, R c → g'.ki c = g.ki c ∧ (2 ≤ g.ki c → g'.ka c = g.ka c ∧ R (g.ka c)) ∧ (2 ≤ g.ki c → g.ki c ≠ 3 → g'.kb c = g.kb c ∧ R (g.kb c)) ∧ ∀ x, (g'.hl c x ↔ g.hl c x) ∧ (g.hl c x → R x)
section GRAPH
variable {σ τ σ' τ' : tvS} {K1 K2 Bm : Nat} {T T' : tyJ} {g g' : tgD} {R : Nat → Prop}
theorem EXg.ed {c y : Nat} (h : EXg R g g') (hc : R c) : (g'.ed c y ↔ g.ed c y) ∧ (g.ed c y → R y) := by
  obtain ⟨h1, h2, h3, h4⟩ := h c hc
  unfold tgD.ed
  rw [h1]
  refine ⟨⟨fun q => ?_, fun q => ?_⟩, fun q => ?_⟩
  · rcases q with ⟨q1, q2, q3⟩ | ⟨q1, q2⟩ | ⟨q1, q2⟩
    · exact .inl ⟨q1, q2, by rw [← (h2 q1).1]; exact q3⟩
    · exact .inr (.inl ⟨q1, by rw [← (h3 (by omega) (by omega)).1]; exact q2⟩)
    · exact .inr (.inr ⟨q1, (h4 y).1.mp q2⟩)
  · rcases q with ⟨q1, q2, q3⟩ | ⟨q1, q2⟩ | ⟨q1, q2⟩
    · exact .inl ⟨q1, q2, by rw [(h2 q1).1]; exact q3⟩
    · exact .inr (.inl ⟨q1, by rw [(h3 (by omega) (by omega)).1]; exact q2⟩)
    · exact .inr (.inr ⟨q1, (h4 y).1.mpr q2⟩)
  · rcases q with ⟨q1, q2, q3⟩ | ⟨q1, q2⟩ | ⟨q1, q2⟩
    · rw [q3]; exact (h2 q1).2
    · rw [q2]; exact (h3 (by omega) (by omega)).2
    · exact (h4 y).2 q2
theorem EXg.rn {x : Nat} (h : EXg R g g') : ∀ (n c : Nat), R c → g'.rn n c x → g.rn n c x ∧ R x := by
  intro n
  induction n with
  | zero => intro c hc q; exact ⟨q, by have q : c = x := q; rw [← q]; exact hc⟩
  | succ n ih =>
    intro c hc ⟨y, e, k⟩
    have e' := (h.ed hc).1.mp e
    obtain ⟨i1, i2⟩ := ih y ((h.ed hc).2 e') k
    exact ⟨⟨y, e', i1⟩, i2⟩
theorem EXg.rc {c x : Nat} (h : EXg R g g') (hc : R c) (q : g'.rc c x) : g.rc c x ∧ R x := by
  obtain ⟨n, q⟩ := q
  obtain ⟨a, b⟩ := h.rn n c hc q
  exact ⟨⟨n, a⟩, b⟩
theorem TJ0.i1 (h : TJ0 K1 K2 T σ τ) : (∀ x, (yG T).1 x = 1 ↔ x = 0) ∧ (∀ x, (yG T).1 x ≤ 4) ∧ (∀ x u, yH T x u → yC T x = x → (yG T).1 x = 4) ∧ gP (yG T) (yC T) ∧ (∀ x, x < T.1.1 → yC T x < T.1.1) ∧ yC T 0 = 0 := by
  have hp := h.plc
  obtain ⟨hl, hv, h1, h2, h3, h4, h5, h6, h7, h8⟩ := h.1
  have i1 : ∀ x, (yG T).1 x = 1 ↔ x = 0 := h1.2.2.2.2.2.2.2
  refine ⟨i1, fun x => ?_, fun x u hu hx => ?_, h6, hp.2.1, ?_⟩
  · by_cases c : x < T.1.1
    · exact (h1.2.2.2.2.2.2.1 x c).2.1
    · have := (h1.2.2.2.2.2.1 x (by omega)).2
      show T.1.2.1.1 x ≤ 4
      omega
  · have hu' : hC hl hv x u := by rw [← h8]; exact hu
    obtain ⟨i, q1, q2⟩ := hu'
    have hne : hl x ≠ [] := fun e => by rw [e] at q1; cases q1
    by_cases c : x < T.1.1
    · exact h3 x c hx hne
    · exact absurd (h7 x (by omega)) hne
  · have := h6.2.1 0 (by rw [(i1 0).mpr rfl]; decide)
    exact (i1 _).mp (by rw [show (yG T).1 (yC T 0) = (yG T).1 0 from this]; exact (i1 0).mpr rfl)
/-- roots below a bound -/
def rtB (T : tyJ) (c : Nat) : Prop := c < T.1.1 ∧ yC T c = c
theorem exT.graph (h : TJ0 K1 K2 T σ τ) (h' : TJ0 K1 K2 T' σ' τ') (e : exT T.1.1 Bm T T') : EXg (rtB T) (tgT T) (tgT T') := by
  obtain ⟨p1, p2, p3, p4, p5, p6⟩ := h.plc
  obtain ⟨e1, e2, e3, e4, e5, e6, e7, e8⟩ := e
  obtain ⟨i1, _, _, _, _, i0⟩ := h.i1
  obtain ⟨j1, _⟩ := h'.i1
  intro c ⟨c1, c2⟩
  have ek : (yG T').1 c = (yG T).1 c := e7 c c1
  have cl : ∀ x, x < T.1.1 → yC T' x = yC T x := fun x hx => e5 x hx
  refine ⟨ek, fun k => ?_, fun k k3 => ?_, fun x => ?_⟩
  · obtain ⟨q1, _⟩ := p4 c c1 k
    refine ⟨?_, ?_, p1 _⟩
    · show yC T' ((yG T').2.1 c) = yC T ((yG T).2.1 c)
      rw [show (yG T').2.1 c = (yG T).2.1 c from (e8 c c1).1.1]; exact cl _ q1
    · exact p2 _ q1
  · obtain ⟨_, q1⟩ := p4 c c1 k
    refine ⟨?_, ?_, p1 _⟩
    · show yC T' ((yG T').2.2 c) = yC T ((yG T).2.2 c)
      rw [show (yG T').2.2 c = (yG T).2.2 c from (e8 c c1).1.2]; exact cl _ (q1 k3)
    · exact p2 _ (q1 k3)
  · have hh := (e8 c c1).2 c2 x
    refine ⟨⟨fun q => ?_, fun q => ?_⟩, fun q => ?_⟩
    · rcases q with q | q
      · exact .inl ((i1 x).mpr ((j1 x).mp q))
      · exact .inr (hh.mp q)
    · rcases q with q | q
      · exact .inl ((j1 x).mpr ((i1 x).mp q))
      · exact .inr (hh.mpr q)
    · rcases q with q | ⟨u, q1, q2⟩
      · rw [(i1 x).mp q]; exact ⟨p6, i0⟩
      · rw [← q2]
        exact ⟨p2 _ (p5 c u (by rw [c2]; exact q1)).2, p1 _⟩
/-- what is come to is reached -/
theorem rn_RQ (h : TJ0 K1 K2 T σ τ) {B : Nat → Prop} {x : Nat} (hx : (yG T).1 x ≠ 1) : ∀ (n c : Nat), yC T c = c → RQ (yG T) (yC T) (yH T) B c → (tgT T).rn n c x → RQ (yG T) (yC T) (yH T) B x := by
  obtain ⟨i1, _⟩ := h.i1
  have p1 := h.plc.1
  intro n
  induction n with
  | zero => intro c _ q e; have e : c = x := e; rw [← e]; exact q
  | succ n ih =>
    intro c hc q ⟨y, e, k⟩
    rcases e with ⟨k1, k4, e⟩ | ⟨k1, e⟩ | ⟨k1, e⟩
    · have k1 : 2 ≤ (yG T).1 c := k1
      have e : y = yC T ((yG T).2.1 c) := e
      refine ih y (by rw [e]; exact p1 _) ?_ k
      have hm : (yG T).2.1 c ∈ kids (yG T) (yC T c) := by
        rw [hc]; unfold kids
        by_cases k3 : (yG T).1 c = 3
        · rw [if_pos k3]; exact List.mem_cons_self
        · rw [if_neg k3]; exact List.mem_cons_of_mem _ List.mem_cons_self
      exact (q.kid (by rw [hc]; exact k1) hm).cl (by rw [e]; exact (p1 _).symm)
    · have k1 : (yG T).1 c = 2 ∨ (yG T).1 c = 4 := k1
      have e : y = yC T ((yG T).2.2 c) := e
      refine ih y (by rw [e]; exact p1 _) ?_ k
      have hm : (yG T).2.2 c ∈ kids (yG T) (yC T c) := by
        rw [hc]; unfold kids
        rw [if_neg (by omega)]; exact List.mem_cons_self
      exact (q.kid (by rw [hc]; omega) hm).cl (by rw [e]; exact (p1 _).symm)
    · rcases e with e | ⟨u, u1, u2⟩
      · cases n with
        | zero => have k : y = x := k; rw [← k] at hx; exact absurd e hx
        | succ n =>
          obtain ⟨z, ez, _⟩ := k
          have ek : (tgT T).ki y = 1 := e
          rcases ez with ⟨w, _⟩ | ⟨w, _⟩ | ⟨w, _⟩ <;> omega
      · refine ih y (by rw [← u2]; exact p1 _) ?_ k
        exact (q.held (u := u) (by rw [hc]; exact u1)).cl (by rw [← u2]; exact (p1 _).symm)
theorem rc_RQ (h : TJ0 K1 K2 T σ τ) {B : Nat → Prop} {b x : Nat} (hx : (yG T).1 x ≠ 1) (hb : B b) (q : (tgT T).rc (yC T b) x) : RQ (yG T) (yC T) (yH T) B x := by
  obtain ⟨n, q⟩ := q
  have p1 := h.plc.1
  exact rn_RQ h hx n _ (p1 b) ((RQ.base hb).cl (p1 b).symm) q
/-- what a box is of -/
theorem bxT.at {x k a b : Nat} (h : bxT T x k a b) : (tgT T).ki (yC T x) = k ∧ (tgT T).ka (yC T x) = yC T a ∧ (k ≠ 3 → (tgT T).kb (yC T x) = yC T b) := h
end GRAPH
