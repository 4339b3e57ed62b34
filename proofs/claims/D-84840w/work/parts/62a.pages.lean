/-! RUNS, COMPONENT: pages -/
/-- pages that lead to one another -/
def lkF (nx : Nat → Int32) : List Nat → Int32 → Prop
  | [], x => x = i32 (-1)
  | p :: r, x => x = i32 (p : Int) ∧ lkF nx r (nx p)
def hdP (l : List Nat) : Int32 := match l with
  | [] => i32 (-1)
  | p :: _ => i32 (p : Int)
def laP (l : List Nat) : Int32 := match l.getLast? with
  | none => i32 (-1)
  | some p => i32 (p : Int)
section PAGES
variable {nx nx' : Nat → Int32} {l m : List Nat} {x : Int32} {p : Nat}
theorem lkF.congr : ∀ (l : List Nat) (x : Int32), lkF nx l x → (∀ p, p ∈ l → nx' p = nx p) → lkF nx' l x := by
  intro l
  induction l with
  | nil => intro x h _; exact h
  | cons p r ih =>
    intro x h hn
    obtain ⟨h1, h2⟩ := h
    exact ⟨h1, by rw [hn p List.mem_cons_self]; exact ih _ h2 (fun q hq => hn q (List.mem_cons_of_mem _ hq))⟩
theorem lkF.hd (h : lkF nx l x) : x = hdP l := by
  cases l with
  | nil => exact h
  | cons p r => exact h.1
theorem lkF.app : ∀ (l : List Nat) (x : Int32), lkF nx l x → l.Nodup → l ≠ [] → p ∉ l → (∀ q, q ∈ l → l.getLast? ≠ some q → nx' q = nx q) → (∀ q, l.getLast? = some q → nx' q = i32 (p : Int)) → nx' p = i32 (-1) → lkF nx' (l ++ [p]) x := by
  intro l
  induction l with
  | nil => intro x _ _ h; exact absurd rfl h
  | cons q r ih =>
    intro x h hd _ hp hs hl hpn
    obtain ⟨h1, h2⟩ := h
    rw [List.nodup_cons] at hd
    cases r with
    | nil =>
      refine ⟨h1, ?_, hpn⟩
      exact hl q rfl
    | cons q' r' =>
      have hne : (q :: q' :: r').getLast? ≠ some q := fun e => by
        have e' : (q' :: r').getLast? = some q := by rw [List.getLast?_cons_cons] at e; exact e
        exact hd.1 (List.mem_of_getLast? e')
      refine ⟨h1, ?_⟩
      rw [hs q List.mem_cons_self hne]
      refine ih _ h2 hd.2 (List.cons_ne_nil _ _) (fun hm => hp (List.mem_cons_of_mem _ hm)) (fun y hy hn => hs y (List.mem_cons_of_mem _ hy) (by rw [List.getLast?_cons_cons]; exact hn)) (fun y hy => hl y (by rw [List.getLast?_cons_cons]; exact hy)) hpn
theorem laP_app : laP (l ++ [p]) = i32 (p : Int) := by
  unfold laP
  rw [List.getLast?_append]
  rfl
theorem hdP_app (h : l ≠ []) : hdP (l ++ m) = hdP l := by
  cases l with
  | nil => exact absurd rfl h
  | cons p r => rfl
end PAGES
/-- a region's pages -/
def CRp (r : Nat) (l : List Nat) (σ : tvS) : Prop := rd σ 110 r = hdP l ∧ rd σ 111 r = laP l ∧ lkF (rd σ 106) l (hdP l) ∧ ∀ p, p ∈ l → rd σ 107 p = i32 (r : Int)
/-- all pages: none is told twice; ex, those of before a collection -/
def PGd (pg : Nat → List Nat) (fl ex : List Nat) (nr pgs : Nat) : Prop := (∀ r, r < nr → (pg r).Nodup ∧ ∀ p, p ∈ pg r → p < pgs ∧ p ∉ fl ∧ p ∉ ex ∧ ∀ r', r' < nr → p ∈ pg r' → r' = r) ∧ fl.Nodup ∧ (∀ p, p ∈ fl → p < pgs ∧ p ∉ ex) ∧ ∀ p, p ∈ ex → p < pgs
/-- the pool -/
def CPo (s : cSt) (pg : Nat → List Nat) (fl ex : List Nat) (nr wd pgs : Nat) (σ : tvS) : Prop :=
  (rd σ 103 4 = i32 (pgs : Int) ∧ rd σ 103 5 = i32 (wd : Int) ∧ rd σ 103 8 = hdP fl ∧ rd σ 103 9 = i32 (s.U : Int) ∧ rd σ 103 10 = i32 (s.pk : Int) ∧ rd σ 103 19 = i32 (nr : Int) ∧ rd σ 103 22 = i32 (s.cl : Int) ∧ rd σ 103 23 = i32 (s.cp : Int)) ∧ lkF (rd σ 106) fl (hdP fl) ∧
  (∀ r, r < nr → CRp r (pg r) σ ∧ rd σ 112 r = i32 ((s.R r).2.2 : Int) ∧ rd σ 113 r = i32 ((s.R r).1 : Int) ∧ rd σ 114 r = i32 ((s.R r).2.1 : Int) ∧ (pg r).length = (s.R r).2.1) ∧ PGd pg fl ex nr pgs ∧ fl.length + s.U = pgs ∧ nr ≤ 2000 ∧ pgs ≤ 400 ∧ wd ≤ 128 ∧ 1 ≤ wd
section POOLOPS
variable {L : Nat} {xs : Nat → Int32} {σ σ' : tvS} {pg : Nat → List Nat} {fl ex : List Nat} {nr pgs wd r p : Nat} {s : cSt}
theorem max_c (a b : Nat) (ha : a < 2147483648) (hb : b < 2147483648) (d : Nat) : rn L xs (d + 1) 438 0 [.int (i32 (a : Int)), .int (i32 (b : Int))] [] σ = some (.inl (some (.int (i32 ((max a b : Nat) : Int)))), σ) := by
  rw [e438_0, c2_lt (by omega) (by omega) (by omega) (by omega)]
  by_cases q : a < b
  · rw [c_t (by omega), e438_9, e438_10, show max a b = b by omega]
  · rw [c_f (by omega), e438_10, show max a b = a by omega]
/-- a page more for a region -/
def tkS (s : cSt) (r : Nat) : cSt := (uq s.R r ((s.R r).1, (s.R r).2.1 + 1, 0), s.cl, s.cp, s.U + 1, max s.pk (s.U + 1))
theorem take_c (h : CPo s pg (p :: fl) ex nr wd pgs σ) (hr : r < nr) (hpk : s.pk ≤ 400) (v2 : Value) (d : Nat) :
    ∃ σ', rn L xs (d + 2) 236 0 [.ref 103, .int (i32 (r : Int)), v2] [] σ = some (.inl none, σ') ∧ CPo (tkS s r) (uq pg r (pg r ++ [p])) fl ex nr wd pgs σ' ∧ frW [103, 106, 107, 110, 111, 112, 114] σ σ' ∧ (∀ q, q ≠ p → q ∉ pg r → rd σ' 106 q = rd σ 106 q) ∧ (∀ q, q ≠ p → rd σ' 107 q = rd σ 107 q) ∧ ∀ q, q ≠ 8 → q ≠ 9 → q ≠ 10 → rd σ' 103 q = rd σ 103 q := by
  obtain ⟨⟨a1, a2, a3, a4, a5, a6, a7, a8⟩, b, c, ⟨d1, d2, d3, d4⟩, e, f1, f2, f3, f4⟩ := h
  obtain ⟨b1, b2⟩ := b
  have a3 : rd σ 103 8 = i32 (p : Int) := a3
  have hp := (d3 p List.mem_cons_self).1
  have hpex := (d3 p List.mem_cons_self).2
  rw [List.nodup_cons] at d2
  obtain ⟨⟨c1, c2, c3, c4⟩, c5, c6, c7, c8⟩ := c r hr
  obtain ⟨n1, n2⟩ := d1 r hr
  have hpr : p ∉ pg r := fun hm => (n2 p hm).2.1 List.mem_cons_self
  have efl : rd σ 106 p = hdP fl := b2.hd
  have hl : fl.length + 1 + s.U = pgs := by have : (p :: fl).length = fl.length + 1 := rfl; omega
  obtain ⟨σ1, h1⟩ : ∃ σ1, σ1 = wr (wr (wr σ 103 8 (hdP fl)) 106 p (i32 (-1))) 107 p (i32 (r : Int)) := ⟨_, rfl⟩
  have w1 : frW [103, 106, 107, 110, 111, 112, 114] σ σ1 := by rw [h1]; exact ((frW_wr rfl).trans (frW_wr rfl)).trans (frW_wr rfl)
  have emax : max s.pk (s.U + 1) ≤ 401 := by omega
  -- the tail
  have fin : ∀ σ2 : tvS, frW [103, 106, 107, 110, 111, 112, 114] σ1 σ2 → (∀ q, rd σ2 103 q = rd σ1 103 q) → (∀ q, rd σ2 107 q = rd σ1 107 q) → (∀ q, q ≠ r → rd σ2 110 q = rd σ 110 q) → rd σ2 110 r = hdP (pg r ++ [p]) → (∀ q, rd σ2 111 q = rd σ 111 q) → (∀ q, rd σ2 112 q = rd σ 112 q) → (∀ q, rd σ2 114 q = rd σ 114 q) → lkF (rd σ2 106) (pg r ++ [p]) (hdP (pg r ++ [p])) → (∀ q, q ≠ p → q ∉ pg r → rd σ2 106 q = rd σ 106 q) →
      ∃ σ', rn L xs (d + 2) 236 61 [.ref 103, .int (i32 (r : Int)), .int (i32 (p : Int))] [] σ2 = some (.inl none, σ') ∧ CPo (tkS s r) (uq pg r (pg r ++ [p])) fl ex nr wd pgs σ' ∧ frW [103, 106, 107, 110, 111, 112, 114] σ σ' ∧ (∀ q, q ≠ p → q ∉ pg r → rd σ' 106 q = rd σ 106 q) ∧ (∀ q, q ≠ p → rd σ' 107 q = rd σ 107 q) ∧ ∀ q, q ≠ 8 → q ≠ 9 → q ≠ 10 → rd σ' 103 q = rd σ 103 q := by
    intro σ2 w2 g103 g107 g110 g110' g111 g112 g114 glk g106
    have h9 : rd σ2 103 9 = i32 (s.U : Int) := by rw [g103, h1, wr_nek (by decide), wr_nek (by decide), wr_nei (by decide)]; exact a4
    have h10 : rd σ2 103 10 = i32 (s.pk : Int) := by rw [g103, h1, wr_nek (by decide), wr_nek (by decide), wr_nei (by decide)]; exact a5
    obtain ⟨σ3, h3⟩ : ∃ σ3, σ3 = wr (wr (wr (wr σ2 111 r (i32 (p : Int))) 112 r 0) 114 r (i32 (((s.R r).2.1 + 1 : Nat) : Int))) 103 9 (i32 ((s.U + 1 : Nat) : Int)) := ⟨_, rfl⟩
    have h10' : rd σ3 103 10 = i32 (s.pk : Int) := by rw [h3, wr_nei (by decide), wr_nek (by decide), wr_nek (by decide), wr_nek (by decide)]; exact h10
    have pm := max_c (L := L) (xs := xs) (σ := σ3) s.pk (s.U + 1) (by omega) (by omega) d
    obtain ⟨σ4, h4⟩ : ∃ σ4, σ4 = wr σ3 103 10 (i32 ((max s.pk (s.U + 1) : Nat) : Int)) := ⟨_, rfl⟩
    have w3 : frW [103, 111, 112, 114] σ2 σ4 := by rw [h4, h3]; exact ((((frW_wr rfl).trans (frW_wr rfl)).trans (frW_wr rfl)).trans (frW_wr rfl)).trans (frW_wr rfl)
    have q103 : ∀ q, q ≠ 8 → q ≠ 9 → q ≠ 10 → rd σ4 103 q = rd σ 103 q := fun q q8 q9 q10 => by
      rw [h4, wr_nei q10, h3, wr_nei q9, wr_nek (by decide), wr_nek (by decide), wr_nek (by decide), g103, h1, wr_nek (by decide), wr_nek (by decide), wr_nei q8]
    have q106 : ∀ q, rd σ4 106 q = rd σ2 106 q := fun q => w3.1 106 rfl q
    have q107 : ∀ q, rd σ4 107 q = rd σ1 107 q := fun q => by rw [w3.1 107 rfl, g107]
    refine ⟨σ4, ?_, ⟨⟨by rw [q103 4 (by decide) (by decide) (by decide)]; exact a1, by rw [q103 5 (by decide) (by decide) (by decide)]; exact a2, ?_, ?_, ?_, by rw [q103 19 (by decide) (by decide) (by decide)]; exact a6, by rw [q103 22 (by decide) (by decide) (by decide)]; exact a7, by rw [q103 23 (by decide) (by decide) (by decide)]; exact a8⟩, ?_, fun q hq => ?_, ⟨fun q hq => ?_, d2.2, fun q hq => d3 q (List.mem_cons_of_mem _ hq), d4⟩, by show fl.length + (s.U + 1) = pgs; omega, f1, f2, f3, f4⟩, (w1.trans w2).trans (w3.sub rfl), fun q q1 q2 => by rw [q106]; exact g106 q q1 q2, fun q q1 => by rw [q107, h1, wr_nei q1, wr_nek (by decide), wr_nek (by decide)], q103⟩
    · rw [e236_61 (d + 1), c_in (by omega) (by omega) (by omega), c_in (by omega) (by omega) (by omega), c_in (by omega) (by omega) (by omega), c_in (by omega) (by omega) (by omega), i32_ixn (by omega), g114, c7, i32_up, h9, i32_up, h10, ← h3, bI_ok pm, ← h4]
    · rw [h4, wr_nei (by decide), h3, wr_nei (by decide), wr_nek (by decide), wr_nek (by decide), wr_nek (by decide), g103, h1, wr_nek (by decide), wr_nek (by decide), wr_self]
    · rw [h4, wr_nei (by decide), h3, wr_self]; rfl
    · rw [h4, wr_self]; rfl
    · refine lkF.congr _ _ (by rw [← efl]; exact b2) (fun q hq => ?_)
      rw [q106]
      exact g106 q (fun e => d2.1 (e ▸ hq)) (fun hm => (n2 q hm).2.1 (List.mem_cons_of_mem _ hq))
    · by_cases eq : q = r
      · subst eq
        have e1 : (tkS s q).R q = ((s.R q).1, (s.R q).2.1 + 1, 0) := uq_self
        rw [e1, uq_self]
        refine ⟨⟨?_, ?_, ?_, fun z hz => ?_⟩, ?_, ?_, ?_, ?_⟩
        · rw [w3.1 110 rfl]; exact g110'
        · rw [laP_app, h4, wr_nek (by decide), h3, wr_nek (by decide), wr_nek (by decide), wr_nek (by decide), wr_self]
        · exact lkF.congr _ _ glk (fun z _ => q106 z)
        · rw [q107, h1]
          rcases List.mem_append.mp hz with g | g
          · have hzp : z ≠ p := fun e => hpr (by rw [← e]; exact g)
            rw [wr_nei hzp, wr_nek (by decide), wr_nek (by decide)]; exact c4 z g
          · rw [List.mem_singleton.mp g, wr_self]
        · rw [h4, wr_nek (by decide), h3, wr_nek (by decide), wr_nek (by decide), wr_self]; rfl
        · rw [w3.1 113 rfl, w2.1 113 rfl, w1.1 113 rfl]; exact c6
        · rw [h4, wr_nek (by decide), h3, wr_nek (by decide), wr_self]
        · rw [List.length_append, c8]; rfl
      · have e1 : (tkS s r).R q = s.R q := uq_ne eq
        rw [e1, uq_ne eq]
        obtain ⟨⟨k1, k2, k3, k4⟩, k5, k6, k7, k8⟩ := c q hq
        obtain ⟨m1, m2⟩ := d1 q hq
        have hpq : ∀ z, z ∈ pg q → z ≠ p ∧ z ∉ pg r := fun z hz => ⟨fun e => (m2 z hz).2.1 (by rw [e]; exact List.mem_cons_self), fun hm => eq ((n2 z hm).2.2.2 q hq hz)⟩
        refine ⟨⟨?_, ?_, ?_, fun z hz => ?_⟩, ?_, ?_, ?_, k8⟩
        · rw [w3.1 110 rfl, g110 q eq]; exact k1
        · rw [h4, wr_nek (by decide), h3, wr_nek (by decide), wr_nek (by decide), wr_nek (by decide), wr_nei eq, g111]; exact k2
        · exact lkF.congr _ _ k3 (fun z hz => by rw [q106]; exact g106 z (hpq z hz).1 (hpq z hz).2)
        · rw [q107, h1, wr_nei (hpq z hz).1, wr_nek (by decide), wr_nek (by decide)]; exact k4 z hz
        · rw [h4, wr_nek (by decide), h3, wr_nek (by decide), wr_nek (by decide), wr_nei eq, wr_nek (by decide), g112]; exact k5
        · rw [w3.1 113 rfl, w2.1 113 rfl, w1.1 113 rfl]; exact k6
        · rw [h4, wr_nek (by decide), h3, wr_nek (by decide), wr_nei eq, wr_nek (by decide), wr_nek (by decide), g114]; exact k7
    · by_cases eq : q = r
      · subst eq
        rw [uq_self]
        refine ⟨?_, fun z hz => ?_⟩
        · rw [List.nodup_append]
          exact ⟨n1, List.nodup_cons.mpr ⟨List.not_mem_nil, List.nodup_nil⟩, fun a ha b hb e => hpr (by rw [← List.mem_singleton.mp hb, ← e]; exact ha)⟩
        · rcases List.mem_append.mp hz with g | g
          · obtain ⟨y1, y2, y3, y4⟩ := n2 z g
            refine ⟨y1, fun hm => y2 (List.mem_cons_of_mem _ hm), y3, fun r' hr' hm => ?_⟩
            by_cases er : r' = q
            · exact er
            · rw [uq_ne er] at hm; exact y4 r' hr' hm
          · have g := List.mem_singleton.mp g
            subst g
            refine ⟨hp, d2.1, hpex, fun r' hr' hm => ?_⟩
            by_cases er : r' = q
            · exact er
            · rw [uq_ne er] at hm
              exact absurd List.mem_cons_self ((d1 r' hr').2 z hm).2.1
      · rw [uq_ne eq]
        obtain ⟨m1, m2⟩ := d1 q hq
        refine ⟨m1, fun z hz => ?_⟩
        obtain ⟨y1, y2, y3, y4⟩ := m2 z hz
        refine ⟨y1, fun hm => y2 (List.mem_cons_of_mem _ hm), y3, fun r' hr' hm => ?_⟩
        by_cases er : r' = r
        · subst er
          rw [uq_self] at hm
          rcases List.mem_append.mp hm with g | g
          · exact y4 r' hr' g
          · exact absurd (by rw [List.mem_singleton.mp g]; exact List.mem_cons_self) y2
        · rw [uq_ne er] at hm; exact y4 r' hr' hm
  -- the head
  have head : rn L xs (d + 2) 236 0 [.ref 103, .int (i32 (r : Int)), v2] [] σ = cond (pv_c2 .ne (laP (pg r)) (i32 (-1))) (rn L xs (d + 2) 236 49 [.ref 103, .int (i32 (r : Int)), .int (i32 (p : Int))] [] σ1) (rn L xs (d + 2) 236 61 [.ref 103, .int (i32 (r : Int)), .int (i32 (p : Int))] [] (wr σ1 110 r (i32 (p : Int)))) := by
    rw [e236_0 (d + 1), a3, c_in (by omega) (by omega) (by omega), c_in (by omega) (by omega) (by omega), c_in (by omega) (by omega) (by omega), c_in (by omega) (by omega) (by omega), i32_ixn (by omega), i32_ixn (by omega), c2, efl, i32_raw, ← h1, c_in (by omega) (by omega) (by omega)]
  rw [head]
  cases epg : (pg r).getLast? with
  | none =>
    have enil : pg r = [] := List.getLast?_eq_none_iff.mp epg
    rw [show laP (pg r) = i32 (-1) by unfold laP; rw [epg], c2_ne (by omega) (by omega) (by omega) (by omega), c_f (by omega)]
    refine fin (wr σ1 110 r (i32 (p : Int))) (frW_wr rfl) (fun q => wr_nek (by decide)) (fun q => wr_nek (by decide)) (fun q hq => by rw [wr_nei hq, h1, wr_nek (by decide), wr_nek (by decide), wr_nek (by decide)]) (by rw [wr_self, enil]; rfl) (fun q => by rw [wr_nek (by decide), h1, wr_nek (by decide), wr_nek (by decide), wr_nek (by decide)]) (fun q => by rw [wr_nek (by decide), h1, wr_nek (by decide), wr_nek (by decide), wr_nek (by decide)]) (fun q => by rw [wr_nek (by decide), h1, wr_nek (by decide), wr_nek (by decide), wr_nek (by decide)]) ?_ (fun q q1 _ => by rw [wr_nek (by decide), h1, wr_nek (by decide), wr_nei q1, wr_nek (by decide)])
    rw [enil]
    refine ⟨rfl, ?_⟩
    show rd _ 106 p = i32 (-1)
    rw [wr_nek (by decide), h1, wr_nek (by decide), wr_self]
  | some z =>
    have hz : z ∈ pg r := List.mem_of_getLast? epg
    have hzl := (n2 z hz).1
    have hne : pg r ≠ [] := fun e => by rw [e] at hz; cases hz
    have hzp : z ≠ p := fun e => hpr (e ▸ hz)
    rw [show laP (pg r) = i32 (z : Int) by unfold laP; rw [epg], c2_ne (by omega) (by omega) (by omega) (by omega), c_t (by omega)]
    have e111 : rd σ1 111 r = i32 (z : Int) := by rw [h1, wr_nek (by decide), wr_nek (by decide), wr_nek (by decide), c2]; unfold laP; rw [epg]
    rw [e236_49, c_in (by omega) (by omega) (by omega), i32_ixn (by omega), e111, c_in (by omega) (by omega) (by omega), i32_ixn (by omega)]
    refine fin (wr σ1 106 z (i32 (p : Int))) (frW_wr rfl) (fun q => wr_nek (by decide)) (fun q => wr_nek (by decide)) (fun q hq => by rw [wr_nek (by decide), h1, wr_nek (by decide), wr_nek (by decide), wr_nek (by decide)]) (by rw [wr_nek (by decide), h1, wr_nek (by decide), wr_nek (by decide), wr_nek (by decide), hdP_app hne]; exact c1) (fun q => by rw [wr_nek (by decide), h1, wr_nek (by decide), wr_nek (by decide), wr_nek (by decide)]) (fun q => by rw [wr_nek (by decide), h1, wr_nek (by decide), wr_nek (by decide), wr_nek (by decide)]) (fun q => by rw [wr_nek (by decide), h1, wr_nek (by decide), wr_nek (by decide), wr_nek (by decide)]) ?_ (fun q q1 q2 => by
      have hqz : q ≠ z := fun e => q2 (by rw [e]; exact hz)
      rw [wr_nei hqz, h1, wr_nek (by decide), wr_nei q1, wr_nek (by decide)])
    rw [hdP_app hne]
    refine lkF.app (nx := rd σ 106) _ _ c3 n1 hne hpr (fun q hq hn => ?_) (fun q hq => ?_) ?_
    · have hqz : q ≠ z := fun e => hn (by rw [e]; exact epg)
      have hqp : q ≠ p := fun e => hpr (by rw [← e]; exact hq)
      rw [wr_nei hqz, h1, wr_nek (by decide), wr_nei hqp, wr_nek (by decide)]
    · rw [epg] at hq
      injection hq with hq
      rw [← hq, wr_self]
    · rw [wr_nei (fun e => hzp e.symm), h1, wr_nek (by decide), wr_self]
end POOLOPS
