/-! RUNS, COMPONENT: pages come back; room in a region -/
section POOLOPS2
variable {L : Nat} {xs : Nat → Int32} {σ σ' : tvS} {pg : Nat → List Nat} {fl ex : List Nat} {nr pgs wd r p U : Nat} {s : cSt}
/-- pages that are free -/
def FRL (fl : List Nat) (U : Nat) (σ : tvS) : Prop := rd σ 103 8 = hdP fl ∧ lkF (rd σ 106) fl (hdP fl) ∧ rd σ 103 9 = i32 (U : Int)
theorem give_loop (d : Nat) : ∀ (l fl : List Nat) (x : Int32) (U : Nat) (σ : tvS) (v1 v3 : Value), lkF (rd σ 106) l x → l.Nodup → (∀ p, p ∈ l → p < 400 ∧ p ∉ fl) → FRL fl U σ → l.length ≤ U → U ≤ 1000 →
    ∃ (σ' : tvS) (fl' : List Nat), rn L xs (d + 1) 240 2 [.ref 103, v1, .int x, v3] [] σ = some (.inl none, σ') ∧ fl' = l.reverse ++ fl ∧ FRL fl' (U - l.length) σ' ∧ frW [103, 106] σ σ' ∧ (∀ q, q ∉ l → rd σ' 106 q = rd σ 106 q) ∧ ∀ q, q ≠ 8 → q ≠ 9 → rd σ' 103 q = rd σ 103 q := by
  intro l
  induction l with
  | nil =>
    intro fl x U σ v1 v3 h _ _ hF _ _
    have h : x = i32 (-1) := h
    refine ⟨σ, fl, ?_, rfl, hF, frW.refl, fun _ _ => rfl, fun _ _ _ => rfl⟩
    rw [h, e240_2, i32_raw, c2_refl, e240_44]
  | cons p l ih =>
    intro fl x U σ v1 v3 h hd hl hF hU hU2
    obtain ⟨h1, h2⟩ := h
    rw [List.nodup_cons] at hd
    obtain ⟨p1, p2⟩ := hl p List.mem_cons_self
    obtain ⟨f1, f2, f3⟩ := hF
    have hlen : (p :: l).length = l.length + 1 := rfl
    obtain ⟨σ1, e1⟩ : ∃ σ1, σ1 = wr (wr (wr σ 106 p (hdP fl)) 103 8 (i32 (p : Int))) 103 9 (i32 ((U - 1 : Nat) : Int)) := ⟨_, rfl⟩
    have g106 : ∀ q, q ≠ p → rd σ1 106 q = rd σ 106 q := fun q hq => by rw [e1, wr_nek (by decide), wr_nek (by decide), wr_nei hq]
    have hF1 : FRL (p :: fl) (U - 1) σ1 := by
      refine ⟨by rw [e1, wr_nei (by decide), wr_self]; rfl, ⟨rfl, ?_⟩, by rw [e1, wr_self]⟩
      have e106 : rd σ1 106 p = hdP fl := by rw [e1, wr_nek (by decide), wr_nek (by decide), wr_self]
      rw [e106]
      exact lkF.congr _ _ f2 (fun q hq => g106 q (fun e => p2 (by rw [← e]; exact hq)))
    obtain ⟨σ2, fl', a1, a2, a3, a4, a5, a6⟩ := ih (p :: fl) (rd σ 106 p) (U - 1) σ1 (jk v1) (.int (rd σ 106 p)) (lkF.congr _ _ h2 (fun q hq => g106 q (fun e => hd.1 (by rw [← e]; exact hq)))) hd.2 (fun q hq => ⟨(hl q (List.mem_cons_of_mem _ hq)).1, fun hm => by
      rcases List.mem_cons.mp hm with e | e
      · exact hd.1 (by rw [← e]; exact hq)
      · exact (hl q (List.mem_cons_of_mem _ hq)).2 e⟩) hF1 (by omega) (by omega)
    have w1 : frW [103, 106] σ σ1 := by rw [e1]; exact ((frW_wr rfl).trans (frW_wr rfl)).trans (frW_wr rfl)
    refine ⟨σ2, fl', ?_, by rw [a2, List.reverse_cons, List.append_assoc]; rfl, by rw [hlen, show U - (l.length + 1) = U - 1 - l.length by omega]; exact a3, w1.trans a4, fun q hq => ?_, fun q q1 q2 => by rw [a6 q q1 q2, e1, wr_nei q2, wr_nei q1, wr_nek (by decide)]⟩
    · have eU : i32 (U : Int) - 1 = i32 ((U - 1 : Nat) : Int) := by rw [show (1 : Int32) = i32 1 from rfl, i32_sub]; congr 1; omega
      rw [h1, e240_2, i32_raw, c2_eq (by omega) (by omega) (by omega) (by omega), c_f (by omega), c_in (by omega) (by omega) (by omega), c_in (by omega) (by omega) (by omega), i32_ixn (by omega), f1, f3, eU, ← e1]
      exact a1
    · rw [a5 q (fun hm => hq (List.mem_cons_of_mem _ hm)), g106 q (fun e => hq (by rw [e]; exact List.mem_cons_self))]
/-- whether it fits -/
theorem fits_c {sz : Nat} (h : CPo s pg fl ex nr wd pgs σ) (hr : r < nr) (hu : (s.R r).2.2 ≤ 128) (hsz : sz ≤ 128) (d : Nat) : rn L xs (d + 1) 235 0 [.ref 103, .int (i32 (r : Int)), .int (i32 (sz : Int))] [] σ = some (.inl (some (.int (if (s.R r).2.1 ≠ 0 ∧ (s.R r).2.2 + sz ≤ wd then 1 else 0))), σ) := by
  obtain ⟨⟨a1, a2, a3, a4, a5, a6, a7, a8⟩, b, c, _, e, f1, f2, f3, f4⟩ := h
  obtain ⟨⟨c1, c2, c3, c4⟩, c5, c6, c7, c8⟩ := c r hr
  have e6 : i32 ((s.R r).2.2 : Int) + i32 (sz : Int) = i32 (((s.R r).2.2 + sz : Nat) : Int) := by rw [i32_add]; congr 1
  have hl : (laP (pg r) = i32 (-1) ∧ (s.R r).2.1 = 0) ∨ (∃ z : Nat, laP (pg r) = i32 (z : Int) ∧ z < 2147483648 ∧ (s.R r).2.1 ≠ 0) := by
    cases epg : (pg r).getLast? with
    | none =>
      have : pg r = [] := List.getLast?_eq_none_iff.mp epg
      left
      refine ⟨by unfold laP; rw [epg], ?_⟩
      rw [← c8, this]; rfl
    | some z =>
      have hz : z ∈ pg r := List.mem_of_getLast? epg
      have := ((‹PGd pg fl ex nr pgs›).1 r hr).2 z hz
      right
      refine ⟨z, by unfold laP; rw [epg], by omega, fun h0 => ?_⟩
      rw [← c8] at h0
      rw [List.length_eq_zero_iff.mp h0] at hz
      cases hz
  rw [e235_0, c_in (by omega) (by omega) (by omega), i32_ixn (by omega), c2, i32_raw]
  rcases hl with ⟨l1, l2⟩ | ⟨z, l1, l2, l3⟩
  · rw [l1, c2_refl, e235_29, e235_30, if_neg (fun h => h.1 l2)]; rfl
  · rw [l1, c2_eq (by omega) (by omega) (by omega) (by omega), c_f (by omega), c_in (by omega) (by omega) (by omega), c5, e6, a2, c2_gt (by omega) (by omega) (by omega) (by omega)]
    by_cases q : (s.R r).2.2 + sz ≤ wd
    · rw [c_f (by omega), e235_30, if_pos ⟨l3, q⟩]; rfl
    · rw [c_t (by omega), e235_29, e235_30, if_neg (fun h => q h.2)]; rfl
/-- room in the latest page -/
theorem place_c {sz z : Nat} (h : CPo s pg fl ex nr wd pgs σ) (hr : r < nr) (hz : (pg r).getLast? = some z) (hu : (s.R r).2.2 + sz ≤ wd) (v3 : Value) (d : Nat) :
    ∃ σ', rn L xs (d + 1) 237 0 [.ref 103, .int (i32 (r : Int)), .int (i32 (sz : Int)), v3] [] σ = some (.inl (some (.int (i32 ((z * wd + (s.R r).2.2 : Nat) : Int)))), σ') ∧ CPo (plP s r sz) pg fl ex nr wd pgs σ' ∧ frW [112, 113] σ σ' := by
  obtain ⟨⟨a1, a2, a3, a4, a5, a6, a7, a8⟩, b, c, hP, e, f1, f2, f3, f4⟩ := h
  obtain ⟨⟨c1, c2, c3, c4⟩, c5, c6, c7, c8⟩ := c r hr
  have hzl := ((hP.1 r hr).2 z (List.mem_of_getLast? hz)).1
  have e6 : i32 ((s.R r).2.2 : Int) + i32 (sz : Int) = i32 (((s.R r).2.2 + sz : Nat) : Int) := by rw [i32_add]; congr 1
  have e7 : i32 (z : Int) * i32 (wd : Int) + i32 ((s.R r).2.2 : Int) = i32 ((z * wd + (s.R r).2.2 : Nat) : Int) := by
    rw [i32_mul, i32_add]; congr 1
  have w : frW [112, 113] σ (wr (wr σ 112 r (i32 (((s.R r).2.2 + sz : Nat) : Int))) 113 r (i32 (((s.R r).1 + 1 : Nat) : Int))) := (frW_wr rfl).trans (frW_wr rfl)
  refine ⟨_, ?_, ⟨⟨by rw [w.1 103 rfl]; exact a1, by rw [w.1 103 rfl]; exact a2, by rw [w.1 103 rfl]; exact a3, by rw [w.1 103 rfl]; exact a4, by rw [w.1 103 rfl]; exact a5, by rw [w.1 103 rfl]; exact a6, by rw [w.1 103 rfl]; exact a7, by rw [w.1 103 rfl]; exact a8⟩, lkF.congr _ _ b (fun q _ => w.1 106 rfl q), fun q hq => ?_, hP, e, f1, f2, f3, f4⟩, w⟩
  · rw [e237_0, c_in (by omega) (by omega) (by omega), c_in (by omega) (by omega) (by omega), c_in (by omega) (by omega) (by omega), c_in (by omega) (by omega) (by omega), c_in (by omega) (by omega) (by omega), c_in (by omega) (by omega) (by omega), i32_ixn (by omega), c2, show laP (pg r) = i32 (z : Int) by unfold laP; rw [hz], a2, c5, e6, e7, c6, i32_up]
  · obtain ⟨k0, k5, k6, k7, k8⟩ := c q hq
    have k0' : CRp q (pg q) (wr (wr σ 112 r (i32 (((s.R r).2.2 + sz : Nat) : Int))) 113 r (i32 (((s.R r).1 + 1 : Nat) : Int))) := by
      obtain ⟨x1, x2, x3, x4⟩ := k0
      exact ⟨by rw [w.1 110 rfl]; exact x1, by rw [w.1 111 rfl]; exact x2, lkF.congr _ _ x3 (fun y _ => w.1 106 rfl y), fun y hy => by rw [w.1 107 rfl]; exact x4 y hy⟩
    by_cases eq : q = r
    · subst eq
      have e1 : (plP s q sz).R q = ((s.R q).1 + 1, (s.R q).2.1, (s.R q).2.2 + sz) := uq_self
      rw [e1]
      exact ⟨k0', by rw [wr_nek (by decide), wr_self], by rw [wr_self], by rw [w.1 114 rfl]; exact k7, k8⟩
    · have e1 : (plP s r sz).R q = s.R q := uq_ne eq
      rw [e1]
      exact ⟨k0', by rw [wr_nek (by decide), wr_nei eq]; exact k5, by rw [wr_nei eq, wr_nek (by decide)]; exact k6, by rw [w.1 114 rfl]; exact k7, k8⟩
end POOLOPS2
