/-! COLLECTIONS, MODEL: the whole of it -/
section MWHOLE
variable {L : Nat} {xs : Nat → Int32} {τ τ' τ0 : tvS} {n nr i fil mt : Nat} {X : dyD} {Y : rgY} {oa : Nat → Nat} {B wd pgs U pk st cl cp : Nat} {Q0 : List Nat}
theorem alQ_bound {hp : Nat → obD} {Q : List Nat} (hs : ∀ o, o ∈ Q → szO (hp o) ≤ wd) : ∀ k, alB (alQ hp wd Q k) k wd ∧ (alQ hp wd Q k).2 ≤ k := by
  intro k
  induction k with
  | zero => exact ⟨fun r => ⟨Nat.le_refl _, Nat.le_refl _, Nat.zero_le _⟩, Nat.le_refl _⟩
  | succ k ih =>
    cases e : Q[k]? with
    | none =>
      have e' : alQ hp wd Q (k + 1) = alQ hp wd Q k := by
        show (match Q[k]? with | some o => pgA wd (alQ hp wd Q k) (hp o).gi (szO (hp o)) | none => alQ hp wd Q k) = _
        rw [e]
      rw [e']
      exact ⟨fun r => by have := ih.1 r; omega, by omega⟩
    | some o =>
      rw [alQ_succ e]
      exact ⟨alB_step ih.1 (hs o (List.mem_of_getElem? e)), by have := (pgA_le (wd := wd) (A := alQ hp wd Q k) (r := (hp o).gi) (sz := szO (hp o))).2; omega⟩
/-- one after the other -/
theorem scan_m (hH : HOK X.hp X.no) (hO : MOb X n oa fil τ0) (hR : MRg Y X.ser nr τ0) (hKd : VKd X n) (hLQ : LVQ X Q0 n nr wd) (hok : okQ X.no Q0) (hno : X.no ≤ 30000) (hwd : wd ≤ 128) (hmt : mt < 2147483648) (hpk : U ≤ pk) (hpg : pgs ≤ 400) (hpkg : pk ≤ 400) (h119 : rd τ0 123 119 = i32 (pgs : Int)) (h120 : rd τ0 123 120 = i32 (wd : Int)) {N : Nat} (hN1 : ∀ k, k < N → k < (bfQ X.hp Q0 k).length) (hN2 : (bfQ X.hp Q0 N).length = N) (d : Nat) :
    ∀ (j k : Nat) (τ : tvS) (v5 v6 v7 : Value), k + j = N → frM [222, 223, 224, 232, 233] [128, 130] τ0 τ → MQu (bfQ X.hp Q0 k) mt X.no τ → MAl (alQ X.hp wd (bfQ X.hp Q0 k) k) nr τ → MCn (st, cl, cp, U, max pk (U + (alQ X.hp wd (bfQ X.hp Q0 k) k).2)) B τ → U + (alQ X.hp wd (bfQ X.hp Q0 k) k).2 ≤ pgs →
      (U + (alQ X.hp wd (bfQ X.hp Q0 N) N).2 ≤ pgs ∧ ∃ τ' v4 v5' v6' v7', rn L xs (d + 2) 404 94 [.ref 123, .int (i32 ((bfQ X.hp Q0 k).length : Int)), .int (i32 ((alQ X.hp wd (bfQ X.hp Q0 k) k).2 : Int)), .int (i32 (k : Int)), .int (i32 (k : Int)), v5, v6, v7] [] τ = rn L xs (d + 2) 404 328 [.ref 123, .int (i32 (N : Int)), .int (i32 ((alQ X.hp wd (bfQ X.hp Q0 N) N).2 : Int)), .int (i32 (N : Int)), v4, v5', v6', v7'] [] τ' ∧ frM [222, 223, 224, 232, 233] [128, 130] τ0 τ' ∧ MQu (bfQ X.hp Q0 N) mt X.no τ' ∧ MAl (alQ X.hp wd (bfQ X.hp Q0 N) N) nr τ' ∧ MCn (st, cl, cp, U, max pk (U + (alQ X.hp wd (bfQ X.hp Q0 N) N).2)) B τ') ∨
      (pgs < U + (alQ X.hp wd (bfQ X.hp Q0 N) N).2 ∧ ∃ τ1 τ' Q, rn L xs (d + 2) 404 94 [.ref 123, .int (i32 ((bfQ X.hp Q0 k).length : Int)), .int (i32 ((alQ X.hp wd (bfQ X.hp Q0 k) k).2 : Int)), .int (i32 (k : Int)), .int (i32 (k : Int)), v5, v6, v7] [] τ = some (.inl (some (.int 0)), τ') ∧ frM [222, 223, 224, 232, 233] [128, 130] τ0 τ1 ∧ MCn (st, cl, cp, U, max pk pgs) B τ1 ∧ MQu Q mt X.no τ1 ∧ MEn 5 τ1 τ') := by
  have hokk := fun k => okQ_bfQ (k := k) (show X.no < 2147483648 by omega) hH hok
  have hNno : N ≤ X.no := by rw [← hN2]; exact (hokk N).len
  intro j
  induction j with
  | zero =>
    intro k τ v5 v6 v7 hj w hQ hA hC hU
    have ek : k = N := by omega
    subst ek
    left
    refine ⟨hU, τ, .int (i32 (k : Int)), v5, v6, v7, ?_, w, hQ, hA, hC⟩
    rw [hN2, e404_94 (d + 1), c2_ge (by omega) (by omega) (by omega) (by omega), c_t (by omega)]
  | succ j ih =>
    intro k τ v5 v6 v7 hj w hQ hA hC hU
    have lt := hN1 k (by omega)
    have hl := (hokk k).len
    have ho : (bfQ X.hp Q0 k)[k]? = some ((bfQ X.hp Q0 k)[k]'lt) := List.getElem?_eq_getElem lt
    generalize (bfQ X.hp Q0 k)[k]'lt = o at ho
    have hmem := List.mem_of_getElem? ho
    obtain ⟨o1, o2⟩ := (hokk k).2 o hmem
    obtain ⟨⟨g1, g2⟩, g3, g4⟩ := hLQ k o hmem
    have r233 := hQ.2.2.1 k o ho
    have hO' : MOb X n oa fil τ := hO.fr w ⟨rfl, rfl, rfl, rfl, rfl, rfl, rfl, rfl, rfl⟩ ⟨rfl, rfl⟩
    have hR' : MRg Y X.ser nr τ := hR.fr w rfl rfl rfl rfl rfl rfl rfl
    obtain ⟨τ1, a1, a2, a3⟩ := stray_m (L := L) (xs := xs) hO' hR' hC o1 o2 hno g1 g2 jv jv d
    have w1 : frM [222, 223, 224, 232, 233] [128, 130] τ0 τ1 := w.trans (a2.sub rfl rfl)
    have hO1 : MOb X n oa fil τ1 := hO.fr w1 ⟨rfl, rfl, rfl, rfl, rfl, rfl, rfl, rfl, rfl⟩ ⟨rfl, rfl⟩
    have hA1 : MAl (alQ X.hp wd (bfQ X.hp Q0 k) k) nr τ1 := fun r hr => by rw [a2.rd rfl, a2.rd rfl, a2.rd rfl]; exact hA r hr
    have hQ1 : MQu (bfQ X.hp Q0 k) mt X.no τ1 := hQ.fr a2 rfl rfl rfl
    obtain ⟨bd1, bd2⟩ := alQ_bound (hp := X.hp) (wd := wd) (Q := bfQ X.hp Q0 k) (fun o' ho' => (hLQ k o' ho').2.2) k
    have head : rn L xs (d + 2) 404 94 [.ref 123, .int (i32 ((bfQ X.hp Q0 k).length : Int)), .int (i32 ((alQ X.hp wd (bfQ X.hp Q0 k) k).2 : Int)), .int (i32 (k : Int)), .int (i32 (k : Int)), v5, v6, v7] [] τ = rn L xs (d + 2) 404 121 [.ref 123, .int (i32 ((bfQ X.hp Q0 k).length : Int)), .int (i32 ((alQ X.hp wd (bfQ X.hp Q0 k) k).2 : Int)), .int (i32 (k : Int)), .int (i32 (k : Int)), .int (i32 (o : Int)), dj v6, dj v7] [] τ1 := by
      rw [e404_94 (d + 1), c2_ge (by omega) (by omega) (by omega) (by omega), c_f (by omega), c_in (by omega) (by omega) (by omega), i32_ixn (by omega), r233, bI_ok a1]
      rfl
    have hrm := room_m (L := L) (xs := xs) (o := o) (k := k) (f := (alQ X.hp wd (bfQ X.hp Q0 k) k).2) (A := alQ X.hp wd (bfQ X.hp Q0 k) k) hO1 (by rw [w1.2 144 rfl]; exact hR.1) hR.2.1 hno ⟨o1, o2⟩ g1 g4 hwd (by omega) hA1 bd1 rfl bd2 a3 hpk hU hpg hpkg (by rw [w1.2 119 rfl]; exact h119) (by rw [w1.2 120 rfl]; exact h120) (i32 ((bfQ X.hp Q0 k).length : Int)) (i32 (k : Int)) (dj v6) (dj v7) d
    rw [head]
    have ealk : alQ X.hp wd (bfQ X.hp Q0 (k + 1)) (k + 1) = pgA wd (alQ X.hp wd (bfQ X.hp Q0 k) k) (X.hp o).gi (szO (X.hp o)) := by
      rw [alQ_pre (bfQ_step k) (k + 1) (by omega), alQ_succ ho]
    rcases hrm with ⟨h1, τ2, v6', b1, b2, b3, b4⟩ | ⟨h1, τ2, b1, b2⟩
    · have w2 : frM [222, 223, 224, 232, 233] [128, 130] τ0 τ2 := w1.trans (b4.sub rfl rfl)
      have hO2 : MOb X n oa fil τ2 := hO.fr w2 ⟨rfl, rfl, rfl, rfl, rfl, rfl, rfl, rfl, rfl⟩ ⟨rfl, rfl⟩
      obtain ⟨q1, q2⟩ := hO2.2.2.2.2.1 o g3
      obtain ⟨_, q4, _⟩ := hO2.2.2.2.1 o o1 o2
      obtain ⟨τ3, v6'', c1, c2, c3⟩ := inner_loop (L := L) (xs := xs) (X := X) (mt := mt) (o := o) (a := oa o) hno hmt ⟨o1, o2⟩ (fun w' hw' => ⟨(hH o o1 o2 w' hw').mono (by omega), hKd.2 o o1 o2 w' hw'⟩) (by omega) (by have := hO.2.2.1; omega) (i32 ((pgA wd (alQ X.hp wd (bfQ X.hp Q0 k) k) (X.hp o).gi (szO (X.hp o))).2 : Int)) (i32 ((k + 1 : Nat) : Int)) (i32 (k : Int)) (bfQ X.hp Q0 k) d (X.hp o).co.length 0 τ2 v6' (by omega) q1 (hO2.2.2.2.1 o o1 o2).1.2.2.2.2.2 (hQ1.fr b4 rfl rfl rfl)
      rw [← bfQ_succ ho] at c1 c2
      have w3 : frM [222, 223, 224, 232, 233] [128, 130] τ0 τ3 := w2.trans (c3.sub rfl rfl)
      have hA3 : MAl (alQ X.hp wd (bfQ X.hp Q0 (k + 1)) (k + 1)) nr τ3 := by
        rw [ealk]
        exact fun r hr => by rw [c3.rd rfl, c3.rd rfl, c3.rd rfl]; exact b2 r hr
      have hC3 : MCn (st, cl, cp, U, max pk (U + (alQ X.hp wd (bfQ X.hp Q0 (k + 1)) (k + 1)).2)) B τ3 := by
        rw [ealk]
        exact b3.fr c3 ⟨rfl, rfl, rfl, rfl, rfl, rfl, rfl, rfl⟩
      have hhead : rn L xs (d + 2) 404 121 [.ref 123, .int (i32 ((bfQ X.hp Q0 k).length : Int)), .int (i32 ((alQ X.hp wd (bfQ X.hp Q0 k) k).2 : Int)), .int (i32 (k : Int)), .int (i32 (k : Int)), .int (i32 (o : Int)), dj v6, dj v7] [] τ1 = rn L xs (d + 2) 404 94 [.ref 123, .int (i32 ((bfQ X.hp Q0 (k + 1)).length : Int)), .int (i32 ((alQ X.hp wd (bfQ X.hp Q0 (k + 1)) (k + 1)).2 : Int)), .int (i32 ((k + 1 : Nat) : Int)), .int (i32 ((k + 1 : Nat) : Int)), .int (i32 (o : Int)), v6'', .int (i32 ((X.hp o).co.length : Int))] [] τ3 := by
        rw [b1]
        refine Eq.trans c1 ?_
        rw [e404_322, i32_up, ealk]
      rw [hhead]
      exact ih (k + 1) τ3 (.int (i32 (o : Int))) v6'' (.int (i32 ((X.hp o).co.length : Int))) (by omega) w3 c2 hA3 hC3 (by rw [ealk]; exact h1)
    · right
      refine ⟨?_, τ1, τ2, bfQ X.hp Q0 k, b1, w1, ?_, hQ1, b2⟩
      · have e1 := alQ_mono (hp := X.hp) (wd := wd) (Q := bfQ X.hp Q0 N) (N - (k + 1)) (k + 1)
        rw [show k + 1 + (N - (k + 1)) = N by omega] at e1
        have e2 := alQ_pre (hp := X.hp) (wd := wd) (bfQ_mono (hp := X.hp) (Q := Q0) (N - (k + 1)) (k + 1)) (k + 1) (by have := (bfQ_step (hp := X.hp) (Q := Q0) k).len; omega)
        rw [show k + 1 + (N - (k + 1)) = N by omega] at e2
        rw [e2, ealk] at e1
        omega
      · have := (pgA_le (wd := wd) (A := alQ X.hp wd (bfQ X.hp Q0 k) k) (r := (X.hp o).gi) (sz := szO (X.hp o))).2
        have e : max pk (U + (alQ X.hp wd (bfQ X.hp Q0 k) k).2) = max pk pgs := by omega
        rw [← e]; exact a3
/-- what is counted comes in its place -/
theorem back_loop {A : alD} (hnr : nr ≤ 2000) (v1 v5 v6 v7 : Value) (x2 x3 : Int32) (d : Nat) : ∀ (j r : Nat) (τ : tvS), r + j = nr → rd τ 123 144 = i32 (nr : Int) → MAl A nr τ → (∀ q, q < nr → rd τ 216 q = i32 ((Y q).1 : Int) ∧ rd τ 217 q = i32 ((Y q).2.1 : Int) ∧ rd τ 218 q = i32 (X.ser q : Int)) → (∀ q, q < r → rd τ 219 q = i32 ((A.1 q).1 : Int) ∧ rd τ 220 q = i32 ((A.1 q).2.1 : Int) ∧ rd τ 221 q = i32 ((A.1 q).2.2 : Int)) →
    ∃ τ' v4, rn L xs (d + 1) 404 331 [.ref 123, v1, .int x2, .int x3, .int (i32 (r : Int)), v5, v6, v7] [] τ = rn L xs (d + 1) 404 388 [.ref 123, v1, .int x2, .int x3, v4, v5, v6, v7] [] τ' ∧ MRg (fun q => ((Y q).1, (Y q).2.1, A.1 q)) X.ser nr τ' ∧ frM [219, 220, 221] [] τ τ' := by
  intro j
  induction j with
  | zero =>
    intro r τ hj h1 hA hY h2
    refine ⟨τ, .int (i32 (r : Int)), ?_, ⟨h1, hnr, fun q hq => ?_⟩, frM.refl⟩
    · rw [e404_331, h1, c2_ge (by omega) (by omega) (by omega) (by omega), c_t (by omega)]
    · obtain ⟨y1, y2, y3⟩ := hY q hq
      obtain ⟨z1, z2, z3⟩ := h2 q (by omega)
      exact ⟨y1, y2, y3, z1, z2, z3⟩
  | succ j ih =>
    intro r τ hj h1 hA hY h2
    obtain ⟨a1, a2, a3⟩ := hA r (by omega)
    have w : frM [219, 220, 221] [] τ (wr (wr (wr τ 219 r (i32 ((A.1 r).1 : Int))) 220 r (i32 ((A.1 r).2.1 : Int))) 221 r (i32 ((A.1 r).2.2 : Int))) := ((frM_wr rfl (by decide)).trans (frM_wr rfl (by decide))).trans (frM_wr rfl (by decide))
    obtain ⟨τ', v4, b1, b2, b3⟩ := ih (r + 1) _ (by omega) (by rw [w.2 144 rfl]; exact h1) (fun q hq => by rw [w.rd rfl, w.rd rfl, w.rd rfl]; exact hA q hq) (fun q hq => by rw [w.rd rfl, w.rd rfl, w.rd rfl]; exact hY q hq) (fun q hq => by
      by_cases e : q = r
      · subst e
        rw [wr_nek (by decide), wr_nek (by decide), wr_self, wr_nek (by decide), wr_self, wr_self]
        exact ⟨rfl, rfl, rfl⟩
      · rw [wr_nei e, wr_nei e, wr_nei e, wr_nei e, wr_nei e, wr_nei e, wr_nei e, wr_nei e, wr_nei e]
        exact h2 q (by omega))
    refine ⟨τ', v4, ?_, b2, w.trans b3⟩
    rw [e404_331, h1, c2_ge (by omega) (by omega) (by omega) (by omega), c_f (by omega), c_in (by omega) (by omega) (by omega), c_in (by omega) (by omega) (by omega), c_in (by omega) (by omega) (by omega), c_in (by omega) (by omega) (by omega), c_in (by omega) (by omega) (by omega), c_in (by omega) (by omega) (by omega), i32_ixn (by omega), a1, a2, a3, i32_up]
    exact b1
/-- a collection -/
theorem collect_m (hH : HOK X.hp X.no) (hS : MSt n X.sv τ0) (hO : MOb X n oa fil τ0) (hR : MRg Y X.ser nr τ0) (hC : MCn (st, cl, cp, U, pk) B τ0) (hMk : MMk mt X.no τ0) (hKd : VKd X n) (hV : ∀ k, k < n → VOK X.no (X.sv k)) (hLQ : LVQ X (stQ X.sv n) n nr wd) (hno : X.no ≤ 30000) (hwd : wd ≤ 128) (hmt : mt + 1 < 2147483648) (hpk : U ≤ pk) (hpg : pgs ≤ 400) (hpkg : pk ≤ pgs) (h119 : rd τ0 123 119 = i32 (pgs : Int)) (h120 : rd τ0 123 120 = i32 (wd : Int)) {N : Nat} (hN1 : ∀ k, k < N → k < (bfQ X.hp (stQ X.sv n) k).length) (hN2 : (bfQ X.hp (stQ X.sv n) N).length = N) (v1 v2 v3 v4 v5 v6 v7 : Value) (d : Nat) :
    (U + (alQ X.hp wd (bfQ X.hp (stQ X.sv n) N) N).2 ≤ pgs ∧ ∃ τ', rn L xs (d + 2) 404 0 [.ref 123, v1, v2, v3, v4, v5, v6, v7] [] τ0 = some (.inl (some (.int 1)), τ') ∧ MRg (fun q => ((Y q).1, (Y q).2.1, (alQ X.hp wd (bfQ X.hp (stQ X.sv n) N) N).1 q)) X.ser nr τ' ∧ MCn (st, cl + 1, cp + N, (alQ X.hp wd (bfQ X.hp (stQ X.sv n) N) N).2, max pk (U + (alQ X.hp wd (bfQ X.hp (stQ X.sv n) N) N).2)) B τ' ∧ MMk (mt + 1) X.no τ' ∧ frM [219, 220, 221, 222, 223, 224, 232, 233] [125, 126, 127, 128, 130, 162] τ0 τ') ∨
    (pgs < U + (alQ X.hp wd (bfQ X.hp (stQ X.sv n) N) N).2 ∧ ∃ τ1 τ', rn L xs (d + 2) 404 0 [.ref 123, v1, v2, v3, v4, v5, v6, v7] [] τ0 = some (.inl (some (.int 0)), τ') ∧ frM [222, 223, 224, 232, 233] [128, 130, 162] τ0 τ1 ∧ MCn (st, cl, cp, U, pgs) B τ1 ∧ MMk (mt + 1) X.no τ1 ∧ MEn 5 τ1 τ') := by
  have hokS := okQ_stQ (sv := X.sv) (show X.no < 2147483648 by omega) n hV
  have w0 : frM [] [162] τ0 (wr τ0 123 162 (i32 ((mt + 1 : Nat) : Int))) := frM_w rfl
  obtain ⟨τ2, u1, a1, a2, a3⟩ := clear_loop (L := L) (xs := xs) (nr := nr) (d + 1) v2 v3 v4 v5 v6 v7 nr 0 (wr τ0 123 162 (i32 ((mt + 1 : Nat) : Int))) (by omega) hR.2.1 (by rw [w0.2 144 rfl]; exact hR.1) (fun q hq => by omega)
  have w2 : frM [222, 223, 224] [162] τ0 τ2 := (w0.sub rfl rfl).trans (a3.sub rfl rfl)
  have hQ0 : MQu (stQ X.sv 0) (mt + 1) X.no τ2 := by
    refine ⟨by rw [a3.2 162 rfl, wr_self], ⟨List.nodup_nil, fun o ho => by cases ho⟩, fun j o hj => ?_, fun o o1 o2 => ⟨fun hm => (by cases hm), fun _ => ?_⟩⟩
    · have : (([] : List Nat))[j]? = some o := hj
      simp at this
    · obtain ⟨z, z1, z2⟩ := hMk.2 o o1 o2
      exact ⟨z, by rw [w2.rd rfl]; exact z1, by omega⟩
  obtain ⟨τ3, u4, u5, u6, u7, b1, b2, b3⟩ := stack_loop (L := L) (xs := xs) (X := X) (n := n) (mt := mt + 1) hKd hV hno hmt 0 0 d n 0 τ2 v5 v6 v7 (by omega) (hS.fr w2 rfl rfl rfl) hQ0
  have w3 : frM [222, 223, 224, 232, 233] [162] τ0 τ3 := (w2.sub rfl rfl).trans (b3.sub rfl rfl)
  have hC3 : MCn (st, cl, cp, U, max pk (U + (alQ X.hp wd (bfQ X.hp (stQ X.sv n) 0) 0).2)) B τ3 := by
    have e : max pk (U + (alQ X.hp wd (bfQ X.hp (stQ X.sv n) 0) 0).2) = pk := by
      show max pk (U + 0) = pk
      omega
    rw [e]
    exact hC.fr w3 ⟨rfl, rfl, rfl, rfl, rfl, rfl, rfl, rfl⟩
  have hA3 : MAl (alQ X.hp wd (bfQ X.hp (stQ X.sv n) 0) 0) nr τ3 := fun r hr => by
    obtain ⟨z1, z2, z3⟩ := a2 r hr
    rw [b3.rd rfl, b3.rd rfl, b3.rd rfl, z1, z2, z3]
    exact ⟨rfl, rfl, rfl⟩
  have hO3 : MOb X n oa fil τ3 := hO.fr w3 ⟨rfl, rfl, rfl, rfl, rfl, rfl, rfl, rfl, rfl⟩ ⟨rfl, rfl⟩
  have hR3 : MRg Y X.ser nr τ3 := hR.fr w3 rfl rfl rfl rfl rfl rfl rfl
  have hUg : U ≤ pgs := by omega
  have hsc := scan_m (L := L) (xs := xs) (τ0 := τ3) (mt := mt + 1) (st := st) (cl := cl) (cp := cp) (B := B) hH hO3 hR3 hKd hLQ hokS hno hwd hmt hpk hpg (by omega) (by rw [w3.2 119 rfl]; exact h119) (by rw [w3.2 120 rfl]; exact h120) hN1 hN2 d N 0 τ3 u5 u6 u7 (by omega) frM.refl b2 hA3 hC3 (by show U + 0 ≤ pgs; omega)
  have head : rn L xs (d + 2) 404 0 [.ref 123, v1, v2, v3, v4, v5, v6, v7] [] τ0 = rn L xs (d + 2) 404 94 [.ref 123, .int (i32 ((bfQ X.hp (stQ X.sv n) 0).length : Int)), .int (i32 ((alQ X.hp wd (bfQ X.hp (stQ X.sv n) 0) 0).2 : Int)), .int (i32 ((0 : Nat) : Int)), .int (i32 ((0 : Nat) : Int)), u5, u6, u7] [] τ3 := by
    rw [e404_0, hMk.1, i32_up]
    refine Eq.trans a1 ?_
    rw [e404_47]
    refine Eq.trans b1 ?_
    rw [e404_91]; rfl
  rw [head]
  have hMk' : ∀ (Q : List Nat) (s : tvS), MQu Q (mt + 1) X.no s → MMk (mt + 1) X.no s := fun Q s hq => ⟨hq.1, fun o o1 o2 => by
    by_cases c : o ∈ Q
    · exact ⟨mt + 1, (hq.2.2.2 o o1 o2).1 c, Nat.le_refl _⟩
    · obtain ⟨z, z1, z2⟩ := (hq.2.2.2 o o1 o2).2 c
      exact ⟨z, z1, by omega⟩⟩
  rcases hsc with ⟨h1, τ4, t4, t5, t6, t7, c1, c2, c3, c4, c5⟩ | ⟨h1, τ4, τ5, Q, c1, c2, c3, c4, c5⟩
  · left
    refine ⟨h1, ?_⟩
    have w4 : frM [222, 223, 224, 232, 233] [128, 130, 162] τ0 τ4 := (w3.sub rfl rfl).trans (c2.sub rfl rfl)
    obtain ⟨τ5, q4, e1, e2, e3⟩ := back_loop (L := L) (xs := xs) (X := X) (Y := Y) (nr := nr) (A := alQ X.hp wd (bfQ X.hp (stQ X.sv n) N) N) hR.2.1 (.int (i32 (N : Int))) t5 t6 t7 (i32 ((alQ X.hp wd (bfQ X.hp (stQ X.sv n) N) N).2 : Int)) (i32 (N : Int)) (d + 1) nr 0 τ4 (by omega) (by rw [w4.2 144 rfl]; exact hR.1) c4 (fun q hq => by
      obtain ⟨y1, y2, y3, _⟩ := hR.2.2 q hq
      rw [w4.rd rfl, w4.rd rfl, w4.rd rfl]; exact ⟨y1, y2, y3⟩) (fun q hq => by omega)
    have w5 : frM [219, 220, 221, 222, 223, 224, 232, 233] [128, 130, 162] τ0 τ5 := (w4.sub rfl rfl).trans (e3.sub rfl rfl)
    obtain ⟨m1, m2, m3, m4, m5, m6, m7, m8⟩ := c5.fr e3 ⟨rfl, rfl, rfl, rfl, rfl, rfl, rfl, rfl⟩
    have m3 : rd τ5 123 125 = i32 (cl : Int) := m3
    have m4 : rd τ5 123 126 = i32 (cp : Int) := m4
    have w6 : frM [] [125, 126, 127] τ5 (wr (wr (wr τ5 123 127 (i32 ((alQ X.hp wd (bfQ X.hp (stQ X.sv n) N) N).2 : Int))) 123 125 (i32 ((cl + 1 : Nat) : Int))) 123 126 (i32 ((cp + N : Nat) : Int))) := ((frM_w rfl).trans (frM_w rfl)).trans (frM_w rfl)
    refine ⟨_, ?_, e2.fr w6 rfl rfl rfl rfl rfl rfl rfl, ?_, ((hMk' _ _ c3).fr e3 rfl rfl).fr w6 rfl rfl, (w5.sub rfl rfl).trans (w6.sub rfl rfl)⟩
    · rw [c1, e404_328]
      refine Eq.trans e1 ?_
      rw [e404_388, m3, m4, i32_up, i32_add]
      rfl
    · refine ⟨by rw [w6.2 122 rfl]; exact m1, by rw [w6.2 123 rfl]; exact m2, ?_, ?_, ?_, by rw [w6.2 128 rfl]; exact m6, by rw [w6.2 129 rfl]; exact m7, by rw [w6.2 130 rfl]; exact m8⟩
      · rw [wr_nei (by decide), wr_self]
      · rw [wr_self]
      · rw [wr_nei (by decide), wr_nei (by decide), wr_self]
  · right
    have w4 : frM [222, 223, 224, 232, 233] [128, 130, 162] τ0 τ4 := (w3.sub rfl rfl).trans (c2.sub rfl rfl)
    have e : max pk pgs = pgs := by omega
    rw [e] at c3
    exact ⟨h1, τ4, τ5, c1, w4, c3, hMk' _ _ c4, c5⟩
end MWHOLE
