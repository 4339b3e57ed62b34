/-! REGIONS, THE MODEL: an arrow holds one more -/
section HOLDM
variable {L : Nat} {xs : Nat → Int32} {σ σ' τ0 τ2 σ0 : tvS} {D : pgD} {Gs : sgD} {m f : Nat}
theorem addHeld_m {N : Nat} {G : tG} {r : Nat → Nat} {hl : Nat → List Nat} {hv : Nat → Nat} {H S Sh a u : Nat} (hZ : MZ N G r hl hv H S σ) (hM : MH N Sh σ) (hI : ∀ x, r (r x) = r x) (hH : H < 250000) (hSh : Sh < 2147483648) (ha : a < N) (hu : u < N) (hmk : ∀ y, y < N → (rd σ 183 y = i32 (Sh : Int) ↔ ∃ v, hC hl hv (r a) v ∧ r v = y)) (d : Nat) (v3 v4 : Value) :
    (∃ σ', rn L xs (d + 2) 360 0 [.ref 123, .int (i32 (a : Int)), .int (i32 (u : Int)), v3, v4] [] σ = some (.inl (some (.int 0)), σ') ∧ MZ N G r hl hv H S σ' ∧ MH N Sh σ' ∧ (G.1 (r u) = 1 ∨ ∃ v, hC hl hv (r a) v ∧ r v = r u) ∧ frM [169] [] σ σ') ∨
    (∃ (σ' : tvS), rn L xs (d + 2) 360 0 [.ref 123, .int (i32 (a : Int)), .int (i32 (u : Int)), v3, v4] [] σ = some (.inl (some (.int 1)), σ') ∧ MZ N G r (upL hl (r a) (H :: hl (r a))) (upN hv H u) (H + 1) S σ' ∧ MH N Sh σ' ∧ (∀ t v, r t = t → t < N → (hC (upL hl (r a) (H :: hl (r a))) (upN hv H u) t v ↔ hC hl hv t v ∨ (t = r a ∧ v = u))) ∧ G.1 (r u) ≠ 1 ∧ (¬ ∃ v, hC hl hv (r a) v ∧ r v = r u) ∧ (∀ y, y < N → (rd σ' 183 y = i32 (Sh : Int) ↔ rd σ 183 y = i32 (Sh : Int) ∨ y = r u)) ∧ frM [169, 170, 174, 175, 183] [73] σ σ') := by
  obtain ⟨i1, i2, i3⟩ := hZ
  have hN := i1.2.2.1
  obtain ⟨s1, a1, a2, a3⟩ := find_M (L := L) (xs := xs) i1 ha d jv jv jv
  obtain ⟨s2, b1, b2, b3⟩ := find_M (L := L) (xs := xs) a2 hu d jv jv jv
  have w2 := a3.trans b3
  have hra := i1.rlt ha
  have hru := i1.rlt hu
  have hZ2 : MZ N G r hl hv H S s2 := ⟨b2, i2.fr w2 rfl ⟨rfl, rfl, rfl⟩, i3.fr w2 rfl ⟨rfl, rfl⟩⟩
  have hM2 : MH N Sh s2 := hM.fr w2 rfl rfl
  obtain ⟨g1, g2, g3⟩ := b2.2.2.2.2.2.1 (r u) hru
  have e183 : rd s2 183 (r u) = rd σ 183 (r u) := w2.rd (j := 183) rfl _
  have e84 : rd s2 123 84 = i32 (Sh : Int) := hM2.1
  have e73 : rd s2 123 73 = i32 (H : Int) := hZ2.2.1.1
  have base : rn L xs (d + 2) 360 0 [.ref 123, .int (i32 (a : Int)), .int (i32 (u : Int)), v3, v4] [] σ = cond (pv_c2 .eq (i32 (G.1 (r u) : Int)) 1) (rn L xs (d + 2) 360 47 [.ref 123, .int (i32 (a : Int)), .int (i32 (u : Int)), .int (i32 (r a : Int)), .int (i32 (r u : Int))] [] s2) (cond (pv_c2 .eq (rd σ 183 (r u)) (i32 (Sh : Int))) (rn L xs (d + 2) 360 47 [.ref 123, .int (i32 (a : Int)), .int (i32 (u : Int)), .int (i32 (r a : Int)), .int (i32 (r u : Int))] [] s2) (cond (pv_c2 .ne (i32 (H : Int)) 250000) (rn L xs (d + 2) 360 49 [.ref 123, .int (i32 (a : Int)), .int (i32 (u : Int)), .int (i32 (r a : Int)), .int (i32 (r u : Int))] [] s2) (rn L xs (d + 2) 360 47 [.ref 123, .int (i32 (a : Int)), .int (i32 (u : Int)), .int (i32 (r a : Int)), .int (i32 (r u : Int))] [] s2))) := by
    rw [e360_0 (d + 1), bI_ok a1, bI_ok b1, c_in (by omega) (by omega) (by omega), i32_ixn (by omega), g1, c_in (by omega) (by omega) (by omega), e183, e84, e73]
  by_cases k1 : G.1 (r u) = 1
  · refine .inl ⟨s2, ?_, hZ2, hM2, .inl k1, w2⟩
    rw [base, show (1 : Int32) = i32 1 from rfl, c2_eq (by omega) (by omega) (by omega) (by omega), c_t (by omega), e360_47]
  · by_cases k2 : ∃ v, hC hl hv (r a) v ∧ r v = r u
    · refine .inl ⟨s2, ?_, hZ2, hM2, .inr k2, w2⟩
      have e : rd σ 183 (r u) = i32 (Sh : Int) := (hmk (r u) hru).mpr k2
      rw [base, show (1 : Int32) = i32 1 from rfl, c2_eq (by omega) (by omega) (by omega) (by omega), c_f (by omega), e, c2_refl, e360_47]
    · have e : ¬ rd σ 183 (r u) = i32 (Sh : Int) := fun q => k2 ((hmk (r u) hru).mp q)
      have hcf : pv_c2 .eq (rd σ 183 (r u)) (i32 (Sh : Int)) = false := decide_eq_false e
      obtain ⟨sn, esn⟩ : ∃ sn, sn = wr (wr (wr (wr (wr s2 183 (r u) (i32 (Sh : Int))) 174 H (i32 (u : Int))) 175 H (rd s2 170 (r a))) 170 (r a) (i32 (H : Int))) 123 73 (i32 ((H + 1 : Nat) : Int)) := ⟨_, rfl⟩
      have wn : frM [170, 174, 175, 183] [73] s2 sn := by
        rw [esn]
        exact (frM_wr rfl (by decide)).trans ((frM_wr rfl (by decide)).trans ((frM_wr rfl (by decide)).trans ((frM_wr rfl (by decide)).trans (frM_w rfl))))
      have r183 : ∀ y, rd sn 183 y = if y = r u then i32 (Sh : Int) else rd σ 183 y := fun y => by
        rw [esn, wr_nek (by decide), wr_nek (by decide), wr_nek (by decide), wr_nek (by decide)]
        by_cases q : y = r u
        · rw [if_pos q, q, wr_self]
        · rw [if_neg q, wr_nei q, w2.rd (j := 183) rfl]
      have r174 : ∀ i, rd sn 174 i = if i = H then i32 (u : Int) else rd s2 174 i := fun i => by
        rw [esn, wr_nek (by decide), wr_nek (by decide), wr_nek (by decide)]
        by_cases q : i = H
        · rw [if_pos q, q, wr_self]
        · rw [if_neg q, wr_nei q, wr_nek (by decide)]
      have r175 : ∀ i, rd sn 175 i = if i = H then rd s2 170 (r a) else rd s2 175 i := fun i => by
        rw [esn, wr_nek (by decide), wr_nek (by decide)]
        by_cases q : i = H
        · rw [if_pos q, q, wr_self]
        · rw [if_neg q, wr_nei q, wr_nek (by decide), wr_nek (by decide)]
      have r170 : ∀ i, rd sn 170 i = if i = r a then i32 (H : Int) else rd s2 170 i := fun i => by
        rw [esn, wr_nek (by decide)]
        by_cases q : i = r a
        · rw [if_pos q, q, wr_self]
        · rw [if_neg q, wr_nei q, wr_nek (by decide), wr_nek (by decide), wr_nek (by decide)]
      obtain ⟨j1, j2, j3, j4, j5⟩ := hZ2.2.1
      have hraI : r (r a) = r a := hI a
      have hHM : HM N r (upL hl (r a) (H :: hl (r a))) (upN hv H u) (H + 1) sn := by
        refine ⟨by rw [esn, wr_self], by omega, fun i hi => ?_, fun t ht hr => ?_, fun t t' i ht ht' hr hr' h1 h2 => ?_⟩
        · rw [r174 i]
          unfold upN
          by_cases q : i = H
          · rw [if_pos q, if_pos q]; exact ⟨rfl, hu⟩
          · rw [if_neg q, if_neg q]; exact j3 i (by omega)
        · obtain ⟨l1, l2, l3⟩ := j4 t ht hr
          have keep : chW sn (hl t) (rd s2 170 t) := l1.congr (fun i hi => by rw [r175 i, if_neg (by have := l3 i hi; omega)])
          rw [r170 t]
          unfold upL
          by_cases q : t = r a
          · rw [if_pos q, if_pos q]
            rw [q] at keep l2 l3
            refine ⟨⟨rfl, ?_⟩, List.nodup_cons.mpr ⟨fun k => by have := l3 H k; omega, l2⟩, fun i hi => ?_⟩
            · rw [r175 H, if_pos rfl]; exact keep
            · rcases List.mem_cons.mp hi with k | k
              · omega
              · have := l3 i k; omega
          · rw [if_neg q, if_neg q]
            exact ⟨keep, l2, fun i hi => by have := l3 i hi; omega⟩
        · unfold upL at h1 h2
          have inv : ∀ t i, t < N → r t = t → i ∈ (if t = r a then H :: hl (r a) else hl t) → (i = H ∧ t = r a) ∨ i ∈ hl t := fun t i _ _ h => by
            by_cases q : t = r a
            · rw [if_pos q] at h
              rcases List.mem_cons.mp h with k | k
              · exact .inl ⟨k, q⟩
              · rw [q]; exact .inr k
            · rw [if_neg q] at h; exact .inr h
          rcases inv t i ht hr h1 with ⟨k1, k2⟩ | k1
          · rcases inv t' i ht' hr' h2 with ⟨k3, k4⟩ | k3
            · rw [k2, k4]
            · have := (j4 t' ht' hr').2.2 i k3; omega
          · rcases inv t' i ht' hr' h2 with ⟨k3, k4⟩ | k3
            · have := (j4 t ht hr).2.2 i k1; omega
            · exact j5 t t' i ht ht' hr hr' k1 k3
      have hZn : MZ N G r (upL hl (r a) (H :: hl (r a))) (upN hv H u) (H + 1) S sn := ⟨hZ2.1.fr wn rfl ⟨rfl, rfl, rfl, rfl⟩, hHM, hZ2.2.2.fr wn rfl ⟨rfl, rfl⟩⟩
      refine .inr ⟨sn, ?_, hZn, ⟨by rw [wn.2 84 rfl]; exact hM2.1, fun y hy => ?_⟩, fun t v hr ht => ?_, k1, k2, fun y hy => ?_, (w2.sub rfl rfl).trans (wn.sub rfl rfl)⟩
      · rw [base, show (1 : Int32) = i32 1 from rfl, c2_eq (by omega) (by omega) (by omega) (by omega), c_f (by omega), hcf, cond_false, show (250000 : Int32) = i32 250000 from rfl, c2_ne (by omega) (by omega) (by omega) (by omega), c_t (by omega), e360_49, e73, e84, c_in (by omega) (by omega) (by omega), c_in (by omega) (by omega) (by omega), c_in (by omega) (by omega) (by omega), c_in (by omega) (by omega) (by omega), c_in (by omega) (by omega) (by omega), i32_ixn (by omega), i32_ixn (by omega), i32_ixn (by omega), i32_up, ← esn]
        rfl
      · rw [r183 y]
        by_cases q : y = r u
        · rw [if_pos q]; exact ⟨Sh, Nat.le_refl _, rfl⟩
        · rw [if_neg q]; exact hM.2 y hy
      · obtain ⟨l1, l2, l3⟩ := j4 t ht hr
        constructor
        · rintro ⟨i, h1, h2⟩
          unfold upL at h1
          unfold upN at h2
          by_cases q : t = r a
          · rw [if_pos q] at h1
            rcases List.mem_cons.mp h1 with k | k
            · rw [if_pos k] at h2; exact .inr ⟨q, h2.symm⟩
            · rw [← q] at k
              rw [if_neg (by have := l3 i k; omega)] at h2
              exact .inl ⟨i, k, h2⟩
          · rw [if_neg q] at h1
            rw [if_neg (by have := l3 i h1; omega)] at h2
            exact .inl ⟨i, h1, h2⟩
        · rintro (⟨i, h1, h2⟩ | ⟨h1, h2⟩)
          · refine ⟨i, ?_, ?_⟩
            · unfold upL
              by_cases q : t = r a
              · rw [if_pos q]; rw [q] at h1; exact List.mem_cons_of_mem _ h1
              · rw [if_neg q]; exact h1
            · unfold upN
              rw [if_neg (by have := l3 i h1; omega)]; exact h2
          · refine ⟨H, ?_, ?_⟩
            · unfold upL; rw [if_pos h1]; exact List.mem_cons_self
            · unfold upN; rw [if_pos rfl]; exact h2.symm
      · rw [r183 y]
        by_cases q : y = r u
        · rw [if_pos q]; exact ⟨fun _ => .inr q, fun _ => rfl⟩
        · rw [if_neg q]; exact ⟨.inl, fun k => k.elim id (fun k => absurd k q)⟩
end HOLDM
