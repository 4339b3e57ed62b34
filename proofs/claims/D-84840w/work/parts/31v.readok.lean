/-! READING: the two readers agree -/
section READOK
variable {L : Nat} {xs : Nat → Int32} {K1 K2 m : Nat} {μ : Nat → Nat} {σ τ : tvS}
theorem read_ok {d : Nat} (hLV : LV m σ τ) (hμ : mu τ = μ) (hr : roomC K1 K2 σ) (h5 : rd τ 123 5 = 0) (hd : 520 ≤ d) :
    (∃ (fc : Nat) (bk bP tV bF bS : Nat → Nat) (σ0 τ0 σ' τ' : tvS), rn L xs (d + 3) 108 0 [.ref 62] [] σ = some (.inl none, σ') ∧ (∀ dm v v', rn L xs (dm + 11) 298 0 [.ref 123, v, v'] [] τ = some (.inl none, τ')) ∧ PRG0 K1 K2 m μ fc bk bP tV bF bS σ0 τ0 ∧ (∀ j i, j ≠ 64 → rd σ' j i = rd σ0 j i) ∧ σ'.2 = σ0.2 ∧ (∀ j i, j ≠ 165 → rd τ' j i = rd τ0 j i) ∧ τ'.2 = τ0.2 ∧ DPC fc bP σ0) ∨
    ∀ dm v v', FLB K1 K2 (rn L xs (d + 3) 108 0 [.ref 62] [] σ) (rn L xs (dm + 11) 298 0 [.ref 123, v, v'] [] τ) := by
  obtain ⟨d', rfl⟩ : ∃ d', d = d' + 1 := ⟨d - 1, by omega⟩
  have hC : rn L xs (d' + 1 + 3) 108 0 [.ref 62] [] σ = rn L xs (d' + 1 + 3) 108 22 [.ref 62] [] (cS0 σ) := start_c (d' + 2)
  have hM : ∀ dm v v', rn L xs (dm + 11) 298 0 [.ref 123, v, v'] [] τ = rn L xs (dm + 11) 298 30 [.ref 123, v, v'] [] (mS0 τ) := fun dm v v' => start_m (dm + 10) v v'
  rcases funs_loop (L := L) (xs := xs) hd (m + 1) 0 0 _ _ _ _ _ _ _ (by omega) (BT.start hLV hμ hr h5) with ⟨fc, A, bk, bP, tV, bF, bS, σ1, τ1, hB, _, e1, e2⟩ | hfl
  · rcases main_ok (L := L) (xs := xs) hB hd with ⟨bk', bP', tV', bF', bS', σ2, τ2, e3, e4, hP⟩ | hfl
    · obtain ⟨σ3, τ3, r1, r2, r3, r4, r5⟩ := dep_ok (L := L) (xs := xs) hP
      have hC2 : rn L xs (d' + 1 + 3) 108 0 [.ref 62] [] σ = rn L xs (d' + 4) 108 153 [.ref 62] [] σ2 := (hC.trans e1).trans e3
      have hM2 : ∀ dm v v', rn L xs (dm + 11) 298 0 [.ref 123, v, v'] [] τ = bV (rn L xs (dm + 7 + 3) 330 0 [.ref 123, jv, jv, jv] [] τ2) (fun t => some (.inl none, t)) X0 := fun dm v v' => by
        obtain ⟨u, u', e⟩ := e2 dm v v'
        rw [hM dm v v', e]; exact e4 dm u u'
      rcases r5 with ⟨z0, z1, z2⟩ | z
      · exact Or.inl ⟨fc, bk', bP', tV', bF', bS', σ2, τ2, σ3, τ3, hC2.trans (z1 d'), fun dm v v' => by rw [hM2 dm v v', bV_ok (z2 (dm + 7))], hP, r1, r2, r3, r4, z0⟩
      · right
        intro dm v v'
        obtain ⟨σ0, τ', kk, p, y1, y2, y3, y4, y5, y6⟩ := z d' (dm + 7)
        exact ⟨σ0, τ', kk, p, hC2.trans y1, y2, by rw [hM2 dm v v', bV_ok y3], y4, y5, y6⟩
    · right
      intro dm v v'
      obtain ⟨u, u', e⟩ := e2 dm v v'
      rw [hC, e1, hM dm v v', e]
      exact hfl dm u u'
  · right
    intro dm v v'
    rw [hC, hM dm v v']
    exact hfl dm v v'
end READOK
