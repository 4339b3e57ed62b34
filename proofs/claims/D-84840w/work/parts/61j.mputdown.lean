/-! ROOM FOR AN OBJECT: the model makes it -/
section MMAKE
variable {L : Nat} {xs : Nat → Int32} {τ τ' τ0 : tvS} {n nr i fil mt : Nat} {X : dyD} {oa : Nat → Nat} {st wd pgs ev N : Nat} {s : cSt} {fn : Nat → Nat × Nat} {A : alD}
/-- what is known while room is sought -/
def PUH (X : dyD) (n nr wd N : Nat) (A : alD) : Prop := HOK X.hp X.no ∧ VKd X n ∧ (∀ k, k < n → VOK X.no (X.sv k)) ∧ LVQ X (stQ X.sv n) n nr wd ∧ X.no < 30000 ∧ (∀ k, k < N → k < (bfQ X.hp (stQ X.sv n) k).length) ∧ (bfQ X.hp (stQ X.sv n) N).length = N ∧ A = alQ X.hp wd (bfQ X.hp (stQ X.sv n) N) N ∧ wd ≤ 128
/-- sums of pages -/
theorem alQ_sum {hp : Nat → obD} {Q : List Nat} (hg : ∀ o, o ∈ Q → (hp o).gi < nr) : ∀ k, sumF (fun r => ((alQ hp wd Q k).1 r).2.1) 0 nr = (alQ hp wd Q k).2 := by
  intro k
  induction k with
  | zero =>
    have := sumF_cst (w := fun r => ((alQ hp wd Q 0).1 r).2.1) (s := 0) (k := 0) nr (fun _ _ => rfl)
    rw [this]; exact Nat.zero_mul _
  | succ k ih =>
    cases e : Q[k]? with
    | none =>
      have e' : alQ hp wd Q (k + 1) = alQ hp wd Q k := by
        show (match Q[k]? with | some o => pgA wd (alQ hp wd Q k) (hp o).gi (szO (hp o)) | none => alQ hp wd Q k) = _
        rw [e]
      rw [e']; exact ih
    | some o =>
      rw [alQ_succ e]
      have hlt := hg o (List.mem_of_getElem? e)
      unfold pgA
      by_cases c : ((alQ hp wd Q k).1 (hp o).gi).2.1 = 0 ∨ wd < ((alQ hp wd Q k).1 (hp o).gi).2.2 + szO (hp o)
      · rw [if_pos c]
        have := sum_uq (R := (alQ hp wd Q k).1) (q := (hp o).gi) (z := (((alQ hp wd Q k).1 (hp o).gi).1 + 1, ((alQ hp wd Q k).1 (hp o).gi).2.1 + 1, szO (hp o))) nr hlt
        dsimp only at this ⊢
        omega
      · rw [if_neg c]
        have := sum_uq (R := (alQ hp wd Q k).1) (q := (hp o).gi) (z := (((alQ hp wd Q k).1 (hp o).gi).1 + 1, ((alQ hp wd Q k).1 (hp o).gi).2.1, ((alQ hp wd Q k).1 (hp o).gi).2.2 + szO (hp o))) nr hlt
        dsimp only at this ⊢
        omega
theorem PUH_coC (h : PUH X n nr wd N A) (hok : oSt s nr wd pgs X.no) {s' : cSt} (e : coC A N pgs s = .inl s') : oSt s' nr wd pgs X.no ∧ s'.cp = s.cp + N := by
  obtain ⟨hH, hKd, hV, hLQ, hno, hN1, hN2, hA, hwd⟩ := h
  unfold coC at e
  by_cases c : s.U + A.2 ≤ pgs
  · rw [if_pos c] at e
    injection e with e
    have hokS := okQ_stQ (sv := X.sv) (show X.no < 2147483648 by omega) n hV
    have hNle : N ≤ X.no := by rw [← hN2]; exact (okQ_bfQ (show X.no < 2147483648 by omega) hH hokS N).len
    obtain ⟨b1, b2⟩ := alQ_bound (hp := X.hp) (wd := wd) (Q := bfQ X.hp (stQ X.sv n) N) (fun o ho => (hLQ N o ho).2.2) N
    have hs := alQ_sum (hp := X.hp) (wd := wd) (nr := nr) (Q := bfQ X.hp (stQ X.sv n) N) (fun o ho => (hLQ N o ho).1.1) N
    rw [← hA] at b1 b2 hs
    obtain ⟨k1, k2, ks, k3⟩ := hok
    rw [← e]
    exact ⟨⟨by show A.2 ≤ max s.pk (s.U + A.2); omega, by show max s.pk (s.U + A.2) ≤ pgs; omega, hs, fun r _ => ⟨by have := (b1 r).1; show (A.1 r).1 ≤ X.no; omega, (b1 r).2.2⟩⟩, rfl⟩
  · rw [if_neg c] at e; cases e
/-- a collection of the run's own -/
theorem own_coll_m (h : PUH X n nr wd N A) (hS : MSt n X.sv τ) (hO : MOb X n oa fil τ) (hP : MPu fn s st X.B X.ser nr τ) (hMk : MMk mt X.no τ) (hok : oSt s nr wd pgs X.no) (hmt : mt + 1 < 2147483648) (hcp : s.cp < 10000000) (hpg : pgs ≤ 400) (h119 : rd τ 123 119 = i32 (pgs : Int)) (h120 : rd τ 123 120 = i32 (wd : Int)) (d : Nat) :
    (∃ s' τ', coO A N pgs s = .inl s' ∧ rn L xs (d + 3) 403 0 [.ref 123] [] τ = some (.inl (some (.int 1)), τ') ∧ MPu fn s' st X.B X.ser nr τ' ∧ MMk (mt + 1) X.no τ' ∧ oSt s' nr wd pgs X.no ∧ s'.cp < 10000000 ∧ frM [219, 220, 221, 222, 223, 224, 232, 233] [125, 126, 127, 128, 130, 162] τ τ') ∨
    (∃ c s' τ1 τ' mt', coO A N pgs s = .inr (c, s') ∧ mt' ≤ mt + 1 ∧ rn L xs (d + 3) 403 0 [.ref 123] [] τ = some (.inl (some (.int 0)), τ') ∧ MCn (st, s'.cl, s'.cp, s'.U, s'.pk) X.B τ1 ∧ MMk mt' X.no τ1 ∧ frM [222, 223, 224, 232, 233] [128, 130, 162] τ τ1 ∧ MEn c τ1 τ') := by
  have h0 := h
  obtain ⟨hH, hKd, hV, hLQ, hno, hN1, hN2, hA, hwd⟩ := h
  obtain ⟨hR, hC⟩ := hP
  obtain ⟨c1, c2, c3, c4, c5, c6, c7, c8⟩ := id hC
  have c4 : rd τ 123 126 = i32 (s.cp : Int) := c4
  obtain ⟨k1, k2, ks, k3⟩ := id hok
  by_cases q : s.cp < 50000
  · have hc := collect_m (L := L) (xs := xs) (τ0 := τ) hH hS hO hR hC hMk hKd hV hLQ (by omega) hwd hmt k1 hpg k2 h119 h120 hN1 hN2 jv jv jv jv jv jv jv d
    rw [← hA] at hc
    rcases hc with ⟨g1, τ', t1, t2, t3, t4, t5⟩ | ⟨g1, τ1, τ', t1, t2, t3, t4, t5⟩
    · left
      have e : coO A N pgs s = .inl (A.1, s.cl + 1, s.cp + N, A.2, max s.pk (s.U + A.2)) := by unfold coO; rw [if_pos q]; unfold coC; rw [if_pos g1]
      have e' : coC A N pgs s = .inl (A.1, s.cl + 1, s.cp + N, A.2, max s.pk (s.U + A.2)) := by unfold coC; rw [if_pos g1]
      have hokS := okQ_stQ (sv := X.sv) (show X.no < 2147483648 by omega) n hV
      have hNle : N ≤ X.no := by rw [← hN2]; exact (okQ_bfQ (show X.no < 2147483648 by omega) hH hokS N).len
      refine ⟨_, τ', e, ?_, ⟨t2, t3⟩, t4, (PUH_coC h0 hok e').1, by show s.cp + N < 10000000; omega, t5⟩
      rw [e403_0 (d + 2), c4, show (50000 : Int32) = i32 50000 from rfl, c2_lt (by omega) (by omega) (by omega) (by omega), c_t (by omega), e403_17 (d + 2), bI_ok t1]
      rfl
    · right
      have e : coO A N pgs s = .inr (5, (s.R, s.cl, s.cp, s.U, pgs)) := by unfold coO; rw [if_pos q]; unfold coC; rw [if_neg (by omega)]
      refine ⟨5, _, τ1, τ', mt + 1, e, Nat.le_refl _, ?_, t3, t4, t2, t5⟩
      rw [e403_0 (d + 2), c4, show (50000 : Int32) = i32 50000 from rfl, c2_lt (by omega) (by omega) (by omega) (by omega), c_t (by omega), e403_17 (d + 2), bI_ok t1]
      rfl
  · right
    obtain ⟨s1, a1, a2⟩ := end_m (L := L) (xs := xs) (τ := τ) 3 (d + 1)
    have a1 : rn L xs (d + 2) 395 0 [.ref 123, .int 3] [] τ = some (.inl none, s1) := a1
    refine ⟨3, s, τ, s1, mt, by unfold coO; rw [if_neg q], Nat.le_succ _, ?_, hC, hMk, frM.refl, a2⟩
    rw [e403_0 (d + 2), c4, show (50000 : Int32) = i32 50000 from rfl, c2_lt (by omega) (by omega) (by omega) (by omega), c_f (by omega), bV_ok a1]
/-- the end of it: what is told of a run that is over -/
def MOv (st c : Nat) (s' : cSt) (B mt' no : Nat) (S F : List Nat) (τ τ' : tvS) : Prop := ∃ τ1, frM S F τ τ1 ∧ MCn (st, s'.cl, s'.cp, s'.U, s'.pk) B τ1 ∧ MMk mt' no τ1 ∧ MEn c τ1 τ'
/-- a new object, nothing is in it so far -/
def MNw (kind part r sz fil no se : Nat) (τ : tvS) : Prop := rd τ 123 124 = i32 ((no + 1 : Nat) : Int) ∧ rd τ 225 (no + 1) = i32 (kind : Int) ∧ rd τ 229 (no + 1) = i32 (part : Int) ∧ rd τ 227 (no + 1) = i32 (r : Int) ∧ rd τ 228 (no + 1) = i32 (se : Int) ∧ rd τ 226 (no + 1) = i32 (sz : Int) ∧ rd τ 230 (no + 1) = i32 (fil : Int) ∧ rd τ 231 (no + 1) = 0 ∧ rd τ 232 (no + 1) = 0
def MOp (X : dyD) (n : Nat) (oa : Nat → Nat) (fil : Nat) (τ : tvS) : Prop := rd τ 123 164 = i32 (fil : Int) ∧ fil ≤ 200101 ∧ (∀ o, 1 ≤ o → o ≤ X.no → MOr (X.hp o) o τ ∧ (X.hp o).co.length + (X.hp o).kp.length ≤ 100 ∧ (X.hp o).se < 10000000 ∧ (X.hp o).pt < 5000) ∧ (∀ o, RCO X n o → MOi (X.hp o) o (oa o) τ ∧ oa o + (X.hp o).co.length + (X.hp o).kp.length ≤ fil) ∧ ∀ o o', RCO X n o → RCO X n o' → o < o' → oa o + (X.hp o).co.length + (X.hp o).kp.length ≤ oa o'
/-- it is put down -/
theorem put_down {kind part r sz : Nat} (hP : MPu fn s st X.B X.ser nr τ) (hO : MOb X n oa fil τ) (hMk : MMk mt X.no τ) (hok : oSt s nr wd pgs X.no) (hno : X.no < 30000) (hr : r < nr) (hfit : (s.R r).2.2 + sz ≤ wd) (hwd : wd ≤ 128) (d : Nat) :
    ∃ τ', rn L xs (d + 1) 402 95 [.ref 123, .int (i32 (kind : Int)), .int (i32 (part : Int)), .int (i32 (r : Int)), .int (i32 (sz : Int))] [] τ = some (.inl (some (.int (i32 ((X.no + 1 : Nat) : Int)))), τ') ∧ MPu fn (plP s r sz) st X.B X.ser nr τ' ∧ MNw kind part r sz fil X.no (X.ser r) τ' ∧ MOp X n oa fil τ' ∧ MMk mt (X.no + 1) τ' ∧ frM [219, 221, 225, 226, 227, 228, 229, 230, 231, 232] [124] τ τ' := by
  obtain ⟨⟨r1, r2, r3⟩, hC⟩ := hP
  obtain ⟨k1, k2, ks, k3⟩ := hok
  obtain ⟨b1, b3⟩ := k3 r hr
  obtain ⟨g1, g2, g3, g4, g5, g6⟩ := r3 r hr
  have g4 : rd τ 219 r = i32 ((s.R r).1 : Int) := g4
  have g6 : rd τ 221 r = i32 ((s.R r).2.2 : Int) := g6
  obtain ⟨o1, o2⟩ := hO
  have e6 : i32 ((s.R r).2.2 : Int) + i32 (sz : Int) = i32 (((s.R r).2.2 + sz : Nat) : Int) := by rw [i32_add]; congr 1
  obtain ⟨τ', ht⟩ : ∃ τ', τ' = wr (wr (wr (wr (wr (wr (wr (wr (wr (wr (wr τ 221 r (i32 (((s.R r).2.2 + sz : Nat) : Int))) 219 r (i32 (((s.R r).1 + 1 : Nat) : Int))) 123 124 (i32 ((X.no + 1 : Nat) : Int))) 225 (X.no + 1) (i32 (kind : Int))) 229 (X.no + 1) (i32 (part : Int))) 227 (X.no + 1) (i32 (r : Int))) 228 (X.no + 1) (i32 (X.ser r : Int))) 226 (X.no + 1) (i32 (sz : Int))) 230 (X.no + 1) (i32 (fil : Int))) 231 (X.no + 1) 0) 232 (X.no + 1) 0 := ⟨_, rfl⟩
  have w : frM [219, 221, 225, 226, 227, 228, 229, 230, 231, 232] [124] τ τ' := by
    rw [ht]
    exact ((((((((((frM_wr rfl (by decide)).trans (frM_wr rfl (by decide))).trans (frM_w rfl)).trans (frM_wr rfl (by decide))).trans (frM_wr rfl (by decide))).trans (frM_wr rfl (by decide))).trans (frM_wr rfl (by decide))).trans (frM_wr rfl (by decide))).trans (frM_wr rfl (by decide))).trans (frM_wr rfl (by decide))).trans (frM_wr rfl (by decide))
  have old : ∀ q o, 225 ≤ q → q ≤ 232 → o ≠ X.no + 1 → rd τ' q o = rd τ q o := fun q o h1 h2 ho => by
    rw [ht, wr_nei ho, wr_nei ho, wr_nei ho, wr_nei ho, wr_nei ho, wr_nei ho, wr_nei ho, wr_nei ho, wr_nek (by omega), wr_nek (by omega), wr_nek (by omega)]
  refine ⟨τ', ?_, ⟨⟨by rw [w.2 144 rfl]; exact r1, r2, fun q hq => ?_⟩, hC.fr w ⟨rfl, rfl, rfl, rfl, rfl, rfl, rfl, rfl⟩⟩, ⟨?_, ?_, ?_, ?_, ?_, ?_, ?_, ?_, ?_⟩, ⟨by rw [w.2 164 rfl]; exact o2.1, o2.2.1, fun o p1 p2 => ?_, fun o ho => ?_, o2.2.2.2.2⟩, ⟨by rw [w.2 162 rfl]; exact hMk.1, fun o p1 p2 => ?_⟩, w⟩
  · rw [e402_95, c_in (by omega) (by omega) (by omega), c_in (by omega) (by omega) (by omega), c_in (by omega) (by omega) (by omega), c_in (by omega) (by omega) (by omega), o1, i32_up, c_in (by omega) (by omega) (by omega), c_in (by omega) (by omega) (by omega), c_in (by omega) (by omega) (by omega), c_in (by omega) (by omega) (by omega), c_in (by omega) (by omega) (by omega), c_in (by omega) (by omega) (by omega), c_in (by omega) (by omega) (by omega), c_in (by omega) (by omega) (by omega), c_in (by omega) (by omega) (by omega), i32_ixn (by omega), i32_ixn (by omega), g6, e6, g4, i32_up, g3, o2.1, ht]
  · obtain ⟨h1, h2, h3, h4, h5, h6⟩ := r3 q hq
    have h4 : rd τ 219 q = i32 ((s.R q).1 : Int) := h4
    have h5 : rd τ 220 q = i32 ((s.R q).2.1 : Int) := h5
    have h6 : rd τ 221 q = i32 ((s.R q).2.2 : Int) := h6
    show _ = i32 (((fn q).1 : Nat) : Int) ∧ _ = i32 (((fn q).2 : Nat) : Int) ∧ _ = _ ∧ _ = i32 ((uq s.R r ((s.R r).1 + 1, (s.R r).2.1, (s.R r).2.2 + sz) q).1 : Int) ∧ _ = i32 ((uq s.R r ((s.R r).1 + 1, (s.R r).2.1, (s.R r).2.2 + sz) q).2.1 : Int) ∧ _ = i32 ((uq s.R r ((s.R r).1 + 1, (s.R r).2.1, (s.R r).2.2 + sz) q).2.2 : Int)
    rw [w.rd (j := 216) rfl, w.rd (j := 217) rfl, w.rd (j := 218) rfl, w.rd (j := 220) rfl, ht]
    by_cases e : q = r
    · subst e
      rw [uq_self, wr_nek (by decide), wr_nek (by decide), wr_nek (by decide), wr_nek (by decide), wr_nek (by decide), wr_nek (by decide), wr_nek (by decide), wr_nek (by decide), wr_nek (by decide), wr_self, wr_nek (by decide), wr_nek (by decide), wr_nek (by decide), wr_nek (by decide), wr_nek (by decide), wr_nek (by decide), wr_nek (by decide), wr_nek (by decide), wr_nek (by decide), wr_nek (by decide), wr_self]
      exact ⟨h1, h2, h3, rfl, h5, rfl⟩
    · rw [uq_ne e, wr_nek (by decide), wr_nek (by decide), wr_nek (by decide), wr_nek (by decide), wr_nek (by decide), wr_nek (by decide), wr_nek (by decide), wr_nek (by decide), wr_nek (by decide), wr_nei e, wr_nek (by decide), wr_nek (by decide), wr_nek (by decide), wr_nek (by decide), wr_nek (by decide), wr_nek (by decide), wr_nek (by decide), wr_nek (by decide), wr_nek (by decide), wr_nek (by decide), wr_nek (by decide), wr_nei e]
      exact ⟨h1, h2, h3, h4, h5, h6⟩
  · rw [ht, wr_nek (by decide), wr_nek (by decide), wr_nek (by decide), wr_nek (by decide), wr_nek (by decide), wr_nek (by decide), wr_nek (by decide), wr_nek (by decide), wr_self]
  · rw [ht, wr_nek (by decide), wr_nek (by decide), wr_nek (by decide), wr_nek (by decide), wr_nek (by decide), wr_nek (by decide), wr_nek (by decide), wr_self]
  · rw [ht, wr_nek (by decide), wr_nek (by decide), wr_nek (by decide), wr_nek (by decide), wr_nek (by decide), wr_nek (by decide), wr_self]
  · rw [ht, wr_nek (by decide), wr_nek (by decide), wr_nek (by decide), wr_nek (by decide), wr_nek (by decide), wr_self]
  · rw [ht, wr_nek (by decide), wr_nek (by decide), wr_nek (by decide), wr_nek (by decide), wr_self]
  · rw [ht, wr_nek (by decide), wr_nek (by decide), wr_nek (by decide), wr_self]
  · rw [ht, wr_nek (by decide), wr_nek (by decide), wr_self]
  · rw [ht, wr_nek (by decide), wr_self]
  · rw [ht, wr_self]
  · obtain ⟨q1, q2⟩ := o2.2.2.1 o p1 p2
    refine ⟨?_, q2⟩
    unfold MOr
    rw [old 225 o (by omega) (by omega) (by omega), old 226 o (by omega) (by omega) (by omega), old 227 o (by omega) (by omega) (by omega), old 228 o (by omega) (by omega) (by omega), old 229 o (by omega) (by omega) (by omega), old 231 o (by omega) (by omega) (by omega)]
    exact q1
  · obtain ⟨k, k1', k2'⟩ := id ho
    have := k2'.lt
    obtain ⟨⟨q1, q2, q3⟩, q4⟩ := o2.2.2.2.1 o ho
    exact ⟨⟨by rw [old 230 o (by omega) (by omega) (by omega)]; exact q1, fun t v hv => by rw [w.rd rfl, w.rd rfl]; exact q2 t v hv, fun t r s hs => by rw [w.rd rfl]; exact q3 t r s hs⟩, q4⟩
  · by_cases e : o = X.no + 1
    · rw [e]
      refine ⟨0, ?_, Nat.zero_le _⟩
      rw [ht, wr_self]; rfl
    · rw [old 232 o (by omega) (by omega) e]; exact hMk.2 o p1 (by omega)
end MMAKE
