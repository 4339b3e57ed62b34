/-! ROOM FOR AN OBJECT, plainly; the model -/
/-- regions: objects, pages, words; collections, copied, pages used, most -/
abbrev cSt : Type := (Nat → Nat × Nat × Nat) × Nat × Nat × Nat × Nat
def cSt.R (s : cSt) : Nat → Nat × Nat × Nat := s.1
def cSt.cl (s : cSt) : Nat := s.2.1
def cSt.cp (s : cSt) : Nat := s.2.2.1
def cSt.U (s : cSt) : Nat := s.2.2.2.1
def cSt.pk (s : cSt) : Nat := s.2.2.2.2
/-- a collection: A is what all that is reached takes, N how many these are -/
def coC (A : alD) (N pgs : Nat) (s : cSt) : cSt ⊕ (Nat × cSt) := if s.U + A.2 ≤ pgs then .inl (A.1, s.cl + 1, s.cp + N, A.2, max s.pk (s.U + A.2)) else .inr (5, (s.R, s.cl, s.cp, s.U, pgs))
def coO (A : alD) (N pgs : Nat) (s : cSt) : cSt ⊕ (Nat × cSt) := if s.cp < 50000 then coC A N pgs s else .inr (3, s)
def fitP (wd pgs : Nat) (s : cSt) (r sz : Nat) : Option cSt := if (s.R r).2.1 ≠ 0 ∧ (s.R r).2.2 + sz ≤ wd then some s else if 2 * s.U < pgs then some (uq s.R r ((s.R r).1, (s.R r).2.1 + 1, 0), s.cl, s.cp, s.U + 1, max s.pk (s.U + 1)) else none
def plP (s : cSt) (r sz : Nat) : cSt := (uq s.R r ((s.R r).1 + 1, (s.R r).2.1, (s.R r).2.2 + sz), s.2)
def evP (A : alD) (N pgs ev no : Nat) (s : cSt) : cSt ⊕ (Nat × cSt) := if 0 < ev ∧ (no + 1) % ev = 0 then coO A N pgs s else .inl s
def fiP (A : alD) (N wd pgs : Nat) (s : cSt) (r sz : Nat) : cSt ⊕ (Nat × cSt) := match fitP wd pgs s r sz with
  | some s' => .inl s'
  | none => match coO A N pgs s with
    | .inr e => .inr e
    | .inl s1 => match fitP wd pgs s1 r sz with
      | some s' => .inl s'
      | none => .inr (5, s1)
def putP (A : alD) (N wd pgs ev no : Nat) (s : cSt) (r sz : Nat) : cSt ⊕ (Nat × cSt) := if wd < sz then .inr (5, s) else match evP A N pgs ev no s with
  | .inr e => .inr e
  | .inl s1 => match fiP A N wd pgs s1 r sz with
    | .inr e => .inr e
    | .inl s2 => .inl (plP s2 r sz)
/-- what is known of it -/
def oSt (s : cSt) (nr wd pgs no : Nat) : Prop := s.U ≤ s.pk ∧ s.pk ≤ pgs ∧ sumF (fun r => (s.R r).2.1) 0 nr = s.U ∧ ∀ r, r < nr → (s.R r).1 ≤ no ∧ (s.R r).2.2 ≤ wd
theorem sum_uq {R : Nat → Nat × Nat × Nat} {q : Nat} {z : Nat × Nat × Nat} : ∀ nr, q < nr → sumF (fun r => (uq R q z r).2.1) 0 nr + (R q).2.1 = sumF (fun r => (R r).2.1) 0 nr + z.2.1 := by
  intro nr
  induction nr with
  | zero => intro h; omega
  | succ nr ih =>
    intro h
    show sumF (fun r => (uq R q z r).2.1) 0 nr + (uq R q z (0 + nr)).2.1 + (R q).2.1 = sumF (fun r => (R r).2.1) 0 nr + (R (0 + nr)).2.1 + z.2.1
    rw [Nat.zero_add]
    by_cases e : q = nr
    · subst e
      rw [uq_self]
      have hc : ∀ n, n ≤ q → sumF (fun r => (uq R q z r).2.1) 0 n = sumF (fun r => (R r).2.1) 0 n := by
        intro n
        induction n with
        | zero => intro _; rfl
        | succ n ih' =>
          intro hn
          show sumF (fun r => (uq R q z r).2.1) 0 n + (uq R q z (0 + n)).2.1 = sumF (fun r => (R r).2.1) 0 n + (R (0 + n)).2.1
          rw [ih' (by omega), Nat.zero_add, uq_ne (by omega)]
      rw [hc q (Nat.le_refl _)]; omega
    · have := ih (by omega)
      rw [uq_ne (by omega)]; omega
theorem sum_at {w : Nat → Nat} {r nr : Nat} (h : r < nr) : w r ≤ sumF w 0 nr := by
  have := sumF_sub (w := w) (s := 0) (s' := r) (n := nr) (n' := 1) (by omega) (by omega)
  have e : sumF w r 1 = w r := by
    show 0 + w (r + 0) = w r
    rw [Nat.add_zero]; omega
  omega
section MPUT
variable {L : Nat} {xs : Nat → Int32} {τ τ' τ0 : tvS} {n nr i fil mt : Nat} {X : dyD} {oa : Nat → Nat} {st B wd pgs ev no : Nat} {s : cSt} {fn : Nat → Nat × Nat}
/-- the model has it so -/
def MPu (fn : Nat → Nat × Nat) (s : cSt) (st B : Nat) (ser : Nat → Nat) (nr : Nat) (τ : tvS) : Prop := MRg (fun q => ((fn q).1, (fn q).2, s.R q)) ser nr τ ∧ MCn (st, s.cl, s.cp, s.U, s.pk) B τ
theorem tdS_one : tdS X n 1 = 0 := by
  show 0 + @ite _ (1 ≤ 0 ∧ RCO X n 0) (Classical.propDecidable _) ((X.hp 0).co.length + (X.hp 0).kp.length) 0 = 0
  rw [if_neg (fun h => absurd h.1 (by omega))]
theorem tidy_m (hH : HOK X.hp X.no) (hS : MSt n X.sv τ0) (hO : MOb X n oa fil τ0) (hMk : MMk mt X.no τ0) (hKd : VKd X n) (hV : ∀ k, k < n → VOK X.no (X.sv k)) (hno : X.no ≤ 30000) (hmt : mt + 1 < 2147483648) (h200 : ∀ o, 1 ≤ o → o ≤ X.no → ((X.hp o).kd = 3 → rd τ0 200 (X.hp o).pt = i32 ((X.hp o).kp.length : Int)) ∧ ((X.hp o).kd ≠ 3 → (X.hp o).kp = []) ∧ (X.hp o).kd ≤ 3) (hcap : tdS X n (X.no + 1) ≤ 51200) (v1 v2 v3 v4 v5 : Value) (d : Nat) :
    ∃ τ', rn L xs (d + 2) 408 0 [.ref 123, v1, v2, v3, v4, v5] [] τ0 = some (.inl none, τ') ∧ MOb X n (tdS X n) (tdS X n (X.no + 1)) τ' ∧ MMk (mt + 1) X.no τ' ∧ frM [230, 232, 233, 234, 235] [162, 164] τ0 τ' := by
  have hno' : X.no < 2147483648 := by omega
  have hokS := okQ_stQ (sv := X.sv) hno' n hV
  obtain ⟨N, hN1, hN2, hN3⟩ := bf_end hno' hH hokS
  have w0 : frM [] [162] τ0 (wr τ0 123 162 (i32 ((mt + 1 : Nat) : Int))) := frM_w rfl
  have hQ0 : MQu (stQ X.sv 0) (mt + 1) X.no (wr τ0 123 162 (i32 ((mt + 1 : Nat) : Int))) := by
    refine ⟨wr_self _ _ _ _, ⟨List.nodup_nil, fun o ho => by cases ho⟩, fun j o hj => ?_, fun o o1 o2 => ⟨fun hm => (by cases hm), fun _ => ?_⟩⟩
    · have : (([] : List Nat))[j]? = some o := hj
      simp at this
    · obtain ⟨z, z1, z2⟩ := hMk.2 o o1 o2
      exact ⟨z, by rw [w0.rd rfl]; exact z1, by omega⟩
  obtain ⟨τ3, u2, u3, u4, u5, b1, b2, b3⟩ := tstack_loop (L := L) (xs := xs) (X := X) (n := n) (mt := mt + 1) hKd hV hno hmt d n 0 _ v3 v4 v5 (by omega) (hS.fr w0 rfl rfl rfl) hQ0
  have w3 : frM [232, 233] [162] τ0 τ3 := (w0.sub rfl rfl).trans (b3.sub rfl rfl)
  have hO3 : MOb X n oa fil τ3 := hO.fr w3 ⟨rfl, rfl, rfl, rfl, rfl, rfl, rfl, rfl, rfl⟩ ⟨rfl, rfl⟩
  obtain ⟨τ4, t2, t3, t4, t5, c1, c2, c3⟩ := tscan_m (L := L) (xs := xs) (τ0 := τ3) (Q0 := stQ X.sv n) (mt := mt + 1) hH hO3 hKd (met_reach hH hno' hV) hokS hno hmt hN1 hN2 d N 0 τ3 u3 u4 u5 (by omega) frM.refl b2
  have w4 : frM [232, 233] [162] τ0 τ4 := w3.trans (c2.sub rfl rfl)
  have hO4 : MOb X n oa fil τ4 := hO.fr w4 ⟨rfl, rfl, rfl, rfl, rfl, rfl, rfl, rfl, rfl⟩ ⟨rfl, rfl⟩
  obtain ⟨τ5, p1, p3, p4, p5, e1, e2, e3, e4⟩ := tidy_loop (L := L) (xs := xs) (τ0 := τ4) (mt := mt + 1) (Q := bfQ X.hp (stQ X.sv n) N) hno hmt (fun o => ⟨met_reach hH hno' hV N o, reach_met hno' hN1 hN2⟩) (fun o o1 o2 => by rw [w4.rd (j := 200) rfl]; exact h200 o o1 o2) hO4 (d + 1) X.no 1 τ4 (jk (.int (i32 (N : Int)))) t4 t5 (by omega) (Nat.le_refl _) frM.refl c3 (fun o' ho' hlt => by
    obtain ⟨k, k1, k2⟩ := ho'
    have := k2.lt
    omega) (fun o' ho' _ => ⟨(hO4.2.2.2.2.1 o' ho').1, by rw [tdS_one]; exact Nat.zero_le _⟩)
  have w5 : frM [230, 232, 233, 234, 235] [162] τ0 τ5 := (w4.sub rfl rfl).trans (e2.sub rfl rfl)
  have w6 : frM [] [164] τ5 (wr τ5 123 164 (i32 (tdS X n (X.no + 1) : Int))) := frM_w rfl
  have w7 : frM [230, 232, 233, 234, 235] [162, 164] τ0 (wr τ5 123 164 (i32 (tdS X n (X.no + 1) : Int))) := (w5.sub rfl rfl).trans (w6.sub rfl rfl)
  refine ⟨wr τ5 123 164 (i32 (tdS X n (X.no + 1) : Int)), ?_, ⟨by rw [w7.2 124 rfl]; exact hO.1, wr_self _ _ _ _, by omega, fun o o1 o2 => ?_, fun o ho => ⟨?_, ?_⟩, fun o o' ho ho' hlt => ?_⟩, ⟨?_, fun o o1 o2 => ?_⟩, w7⟩
  · rw [e408_0, hMk.1, i32_up]
    refine Eq.trans b1 ?_
    rw [e408_46]
    refine Eq.trans c1 ?_
    rw [e408_120]
    rw [tdS_one] at e1
    refine Eq.trans e1 ?_
    rw [e408_259]
  · obtain ⟨g, g'⟩ := hO.2.2.2.1 o o1 o2
    refine ⟨?_, g'⟩
    unfold MOr
    rw [w7.rd rfl, w7.rd rfl, w7.rd rfl, w7.rd rfl, w7.rd rfl, w7.rd rfl]; exact g
  · obtain ⟨g1, g2, g3⟩ := e4 o ho
    exact ⟨by rw [w6.rd rfl]; exact g1, fun t v hv => by rw [w6.rd rfl, w6.rd rfl]; exact g2 t v hv, fun t r s hk => by rw [w6.rd rfl]; exact g3 t r s hk⟩
  · obtain ⟨k, k1, k2⟩ := id ho
    obtain ⟨o1, o2⟩ := k2.lt
    have q1 := tdS_y (X := X) (n := n) o1 ho
    have q2 := tdS_mono (X := X) (n := n) (X.no - o) (o + 1)
    rw [show o + 1 + (X.no - o) = X.no + 1 by omega] at q2
    omega
  · obtain ⟨k, k1, k2⟩ := id ho
    obtain ⟨o1, o2⟩ := k2.lt
    have q1 := tdS_y (X := X) (n := n) o1 ho
    have q2 := tdS_mono (X := X) (n := n) (o' - (o + 1)) (o + 1)
    rw [show o + 1 + (o' - (o + 1)) = o' by omega] at q2
    omega
  · rw [w6.2 162 rfl]; exact e3.1
  · rw [w6.rd rfl]
    by_cases c : o ∈ bfQ X.hp (stQ X.sv n) N
    · exact ⟨mt + 1, (e3.2.2.2 o o1 o2).1 c, Nat.le_refl _⟩
    · obtain ⟨z, z1, z2⟩ := (e3.2.2.2 o o1 o2).2 c
      exact ⟨z, z1, by omega⟩
/-- whether there is room, perhaps on a page more -/
theorem fits_m {r sz : Nat} (hM : MPu fn s st B X.ser nr τ) (hok : oSt s nr wd pgs no) (hno : no ≤ 30000) (hr : r < nr) (hsz : sz ≤ wd) (hwd : wd ≤ 128) (hpg : pgs ≤ 400) (h119 : rd τ 123 119 = i32 (pgs : Int)) (h120 : rd τ 123 120 = i32 (wd : Int)) (d : Nat) :
    (∃ s' τ', fitP wd pgs s r sz = some s' ∧ rn L xs (d + 1) 407 0 [.ref 123, .int (i32 (r : Int)), .int (i32 (sz : Int))] [] τ = some (.inl (some (.int 1)), τ') ∧ MPu fn s' st B X.ser nr τ' ∧ oSt s' nr wd pgs no ∧ (s'.R r).2.2 + sz ≤ wd ∧ frM [220, 221] [127, 128] τ τ') ∨ (fitP wd pgs s r sz = none ∧ rn L xs (d + 1) 407 0 [.ref 123, .int (i32 (r : Int)), .int (i32 (sz : Int))] [] τ = some (.inl (some (.int 0)), τ)) := by
  obtain ⟨⟨r1, r2, r3⟩, hC⟩ := hM
  obtain ⟨c1, c2, c3, c4, c5, c6, c7, c8⟩ := id hC
  have c5 : rd τ 123 127 = i32 (s.U : Int) := c5
  have c6 : rd τ 123 128 = i32 (s.pk : Int) := c6
  obtain ⟨k1, k2, ks, k3⟩ := hok
  obtain ⟨b1, b3⟩ := k3 r hr
  have b2 : (s.R r).2.1 ≤ 400 := by
    have := sum_at (w := fun r => (s.R r).2.1) hr
    have : (s.R r).2.1 ≤ sumF (fun r => (s.R r).2.1) 0 nr := this
    omega
  obtain ⟨g1, g2, g3, g4, g5, g6⟩ := r3 r hr
  have g5 : rd τ 220 r = i32 ((s.R r).2.1 : Int) := g5
  have g6 : rd τ 221 r = i32 ((s.R r).2.2 : Int) := g6
  have hnr := r2
  have e6 : i32 ((s.R r).2.2 : Int) + i32 (sz : Int) = i32 (((s.R r).2.2 + sz : Nat) : Int) := by rw [i32_add]; congr 1
  by_cases q : (s.R r).2.1 ≠ 0 ∧ (s.R r).2.2 + sz ≤ wd
  · left
    refine ⟨s, τ, if_pos q, ?_, ⟨⟨r1, r2, r3⟩, hC⟩, ⟨k1, k2, ks, k3⟩, q.2, frM.refl⟩
    rw [e407_0, c_in (by omega) (by omega) (by omega), i32_ixn (by omega), g5, c1_le (by omega) (by omega), c_f (by omega), c_in (by omega) (by omega) (by omega), g6, e6, h120, c2_gt (by omega) (by omega) (by omega) (by omega), c_f (by omega)]
  · have pre : rn L xs (d + 1) 407 0 [.ref 123, .int (i32 (r : Int)), .int (i32 (sz : Int))] [] τ = rn L xs (d + 1) 407 26 [.ref 123, .int (i32 (r : Int)), .int (i32 (sz : Int))] [] τ := by
      rw [e407_0, c_in (by omega) (by omega) (by omega), i32_ixn (by omega), g5, c1_le (by omega) (by omega)]
      by_cases z : (s.R r).2.1 = 0
      · rw [c_t (by omega)]
      · rw [c_f (by omega), c_in (by omega) (by omega) (by omega), g6, e6, h120, c2_gt (by omega) (by omega) (by omega) (by omega), c_t (by omega)]
    have e2 : (2 : Int32) * i32 (s.U : Int) = i32 ((2 * s.U : Nat) : Int) := by rw [show (2 : Int32) = i32 2 from rfl, i32_mul]; congr 1
    by_cases u : 2 * s.U < pgs
    · left
      have fin : ∀ y : Nat, y = max s.pk (s.U + 1) → ∃ τ', rn L xs (d + 1) 407 74 [.ref 123, .int (i32 (r : Int)), .int (i32 (sz : Int))] [.int (i32 (y : Int)), .ref 123] (wr τ 123 127 (i32 ((s.U + 1 : Nat) : Int))) = some (.inl (some (.int 1)), τ') ∧ MPu fn (uq s.R r ((s.R r).1, (s.R r).2.1 + 1, 0), s.cl, s.cp, s.U + 1, max s.pk (s.U + 1)) st B X.ser nr τ' ∧ frM [220, 221] [127, 128] τ τ' := fun y hy => by
        have w : frM [220, 221] [127, 128] τ (wr (wr (wr (wr τ 123 127 (i32 ((s.U + 1 : Nat) : Int))) 123 128 (i32 (y : Int))) 220 r (i32 (((s.R r).2.1 + 1 : Nat) : Int))) 221 r 0) := (((frM_w rfl).trans (frM_w rfl)).trans (frM_wr rfl (by decide))).trans (frM_wr rfl (by decide))
        refine ⟨_, ?_, ⟨⟨by rw [w.2 144 rfl]; exact r1, r2, fun q hq => ?_⟩, by rw [w.2 122 rfl]; exact c1, by rw [w.2 123 rfl]; exact c2, by rw [w.2 125 rfl]; exact c3, by rw [w.2 126 rfl]; exact c4, ?_, ?_, by rw [w.2 129 rfl]; exact c7, by rw [w.2 130 rfl]; exact c8⟩, w⟩
        · rw [e407_74, c_in (by omega) (by omega) (by omega), c_in (by omega) (by omega) (by omega), c_in (by omega) (by omega) (by omega), i32_ixn (by omega), wr_nek (by decide), g5, i32_up]
        · obtain ⟨h1, h2, h3, h4, h5, h6⟩ := r3 q hq
          have h4 : rd τ 219 q = i32 ((s.R q).1 : Int) := h4
          have h5 : rd τ 220 q = i32 ((s.R q).2.1 : Int) := h5
          have h6 : rd τ 221 q = i32 ((s.R q).2.2 : Int) := h6
          show _ = i32 (((fn q).1 : Nat) : Int) ∧ _ = i32 (((fn q).2 : Nat) : Int) ∧ _ = _ ∧ _ = i32 ((uq s.R r ((s.R r).1, (s.R r).2.1 + 1, 0) q).1 : Int) ∧ _ = i32 ((uq s.R r ((s.R r).1, (s.R r).2.1 + 1, 0) q).2.1 : Int) ∧ _ = i32 ((uq s.R r ((s.R r).1, (s.R r).2.1 + 1, 0) q).2.2 : Int)
          rw [w.rd (j := 216) rfl, w.rd (j := 217) rfl, w.rd (j := 218) rfl, w.rd (j := 219) rfl]
          by_cases e : q = r
          · subst e
            rw [uq_self, wr_nek (by decide), wr_self, wr_self]
            exact ⟨h1, h2, h3, h4, rfl, rfl⟩
          · rw [uq_ne e, wr_nei e, wr_nei e, wr_nek (by decide), wr_nek (by decide), wr_nei e, wr_nei e, wr_nek (by decide), wr_nek (by decide)]
            exact ⟨h1, h2, h3, h4, h5, h6⟩
        · rw [wr_nek (by decide), wr_nek (by decide), wr_nei (by decide), wr_self]; rfl
        · rw [wr_nek (by decide), wr_nek (by decide), wr_self, hy]; rfl
      have hfit : fitP wd pgs s r sz = some (uq s.R r ((s.R r).1, (s.R r).2.1 + 1, 0), s.cl, s.cp, s.U + 1, max s.pk (s.U + 1)) := by unfold fitP; rw [if_neg q, if_pos u]
      have run : ∃ τ', rn L xs (d + 1) 407 0 [.ref 123, .int (i32 (r : Int)), .int (i32 (sz : Int))] [] τ = some (.inl (some (.int 1)), τ') ∧ MPu fn (uq s.R r ((s.R r).1, (s.R r).2.1 + 1, 0), s.cl, s.cp, s.U + 1, max s.pk (s.U + 1)) st B X.ser nr τ' ∧ frM [220, 221] [127, 128] τ τ' := by
        rw [pre, e407_26, c5, e2, h119, c2_lt (by omega) (by omega) (by omega) (by omega), c_t (by omega), e407_41, c5, i32_up, c6, c2_le (by omega) (by omega) (by omega) (by omega)]
        by_cases y : s.U + 1 ≤ s.pk
        · rw [c_t (by omega), e407_70, wr_nei (by decide), c6]
          exact fin _ (by omega)
        · rw [c_f (by omega)]
          exact fin _ (by omega)
      obtain ⟨τ', t1, t2, t3⟩ := run
      refine ⟨_, τ', hfit, t1, t2, ⟨?_, ?_, ?_, fun q hq => ?_⟩, ?_, t3⟩
      · show s.U + 1 ≤ max s.pk (s.U + 1); omega
      · show max s.pk (s.U + 1) ≤ pgs; omega
      · have := sum_uq (R := s.R) (q := r) (z := ((s.R r).1, (s.R r).2.1 + 1, 0)) nr hr
        have : sumF (fun q => (uq s.R r ((s.R r).1, (s.R r).2.1 + 1, 0) q).2.1) 0 nr + (s.R r).2.1 = sumF (fun r => (s.R r).2.1) 0 nr + ((s.R r).2.1 + 1) := this
        show sumF (fun q => (uq s.R r ((s.R r).1, (s.R r).2.1 + 1, 0) q).2.1) 0 nr = s.U + 1
        omega
      · show ((uq s.R r ((s.R r).1, (s.R r).2.1 + 1, 0)) q).1 ≤ no ∧ ((uq s.R r ((s.R r).1, (s.R r).2.1 + 1, 0)) q).2.2 ≤ wd
        by_cases e : q = r
        · subst e
          rw [uq_self]
          exact ⟨b1, Nat.zero_le _⟩
        · rw [uq_ne e]; exact k3 q hq
      · show ((uq s.R r ((s.R r).1, (s.R r).2.1 + 1, 0)) r).2.2 + sz ≤ wd
        rw [uq_self]; show 0 + sz ≤ wd; omega
    · right
      refine ⟨by unfold fitP; rw [if_neg q, if_neg u], ?_⟩
      rw [pre, e407_26, c5, e2, h119, c2_lt (by omega) (by omega) (by omega) (by omega), c_f (by omega)]
end MPUT
