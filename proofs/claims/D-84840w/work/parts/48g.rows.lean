/-! BETWEEN FUNCTIONS: rows that stay while a function is done -/
section NEXTD
variable {σ τ σa τa σ' τ' τ1 σ2 τ2 : tvS} {K1 K2 Bc Bm f : Nat} {Rc Rm : Nat → Nat → Prop} {pd : List (Nat × List Nat × (Nat → Nat))} {n u a rc rl : Nat} {T Ta T0 T1 T' T2 : tyJ} {D : pgD} {G : sgD} {m : Nat}
theorem REC.prc {n0 fst kc0 rf cf0 kf0 Bm' : Nat} {pe0 : Nat → Nat} {bl R : List Nat} {ow : Nat → Int} {pe pt by' : Nat → Nat} {kc cf kg : Nat} {kf gf gk : Nat → Nat} (hF : PGF D m) (hf : f ≤ D.fc) (h : REC D G K1 K2 f n0 fst kc0 rf cf0 kf0 pe0 Bm' T1 T' T2 bl R ow pe pt by' kc cf kg kf gf gk σa τ1 σ' τ' σ2 τ2) (wc : frT FC42 FT42 [8, 11, 12, 14] σ σa) (oc : ORc D f σ σa) (hB : BXS fst σa) (hfst : fst ≤ 1300) (hk18 : rd σa 74 18 = i32 (kc0 : Int)) (hkc : kc0 + 60 * (D.bF (f + 1) - D.bF f) + 60 < 65536) (h13r : rd σa 65 13 = i32 (rf : Int)) (hrf2 : rf + 60 < 2048) : PRc D f σ σ2 := by
  obtain ⟨hO, _, _, _, _, _, hEc, _⟩ := h
  obtain ⟨_, _, _, _, _, _, ⟨l60, _, _, hBX, _⟩, _, _, _, _, frc, _, f74, ⟨f8182, f7980⟩, _⟩ := hO
  obtain ⟨c1, c2, ⟨c3, c4, c5, c6⟩, c7, c8, c9, ⟨c71, c72, co, cRG⟩, c74, c65, ftl, _⟩ := hEc
  obtain ⟨o1, o2, o3, o4, o5, o6⟩ := oc
  have hPf := hF.2.2 f hf
  have ec : ∀ j, inL FRC j = false → inL FTL j = false → ∀ i, rd σ2 j i = rd σa j i := fun j h1 h2 i => by rw [ftl.1 j h2, frc.1 j h1]
  have ea : ∀ j, inL (50 :: FC42) j = false → ∀ i, rd σa j i = rd σ j i := fun j h i => wc.rd h i
  have hng := nfil_len (mk := fun k => ow k = -1) bl.length
  refine ⟨fun p hp => ?_, fun v hv => ?_, fun g hg => ?_, fun j hj => ?_, ?_, ?_, ?_, ?_, ?_⟩
  · rw [ec 66 rfl rfl, ec 69 rfl rfl]; exact o1 p hp
  · rw [ec 67 rfl rfl]; exact o2 v hv
  · have hne : g ≠ f := by omega
    rw [ec 68 rfl rfl, (co g hne).1, (co g hne).2, frc.1 71 rfl, frc.1 72 rfl, ea 71 rfl, ea 72 rfl, ftl.1 79 rfl, ftl.1 80 rfl, (f7980 g hne).1, (f7980 g hne).2, ea 79 rfl, ea 80 rfl]
    exact ⟨o3 g hg, rfl, rfl, rfl, rfl⟩
  · rw [(c8 j (.inl hj)).1, (c8 j (.inl hj)).2, frc.1 83 rfl, frc.1 84 rfl, ea 83 rfl, ea 84 rfl]; exact ⟨rfl, rfl⟩
  · exact MN.trans ⟨o4, o5⟩ (MN.same (by rw [c65 9 (by decide), frc.1 65 rfl]) (fun k => ec 70 rfl rfl k))
  · refine MN.trans (b := σa) (MN.same (o6 13 (by decide)) (fun k => ea 73 rfl k)) (MN.nat h13r cRG.1 (by omega) (by omega) (fun k hk => ?_))
    rw [cRG.2.2 k (by omega)]
    show (if k < rf then _ else _) = _
    rw [if_pos hk, frc.1 73 rfl]
  · refine MN.trans (b := σa) (MN.same (ea 74 rfl 14) (fun k => ea 81 rfl k)) (MN.nat (y := fst + bl.length) hB.1 (by rw [c74 14 (by decide)]; exact hBX.2.1) (by omega) (by omega) (fun k hk => ?_))
    rw [ftl.1 81 rfl]; exact (f8182 k hk).1
  · refine MN.trans (b := σa) (MN.same (ea 74 rfl 14) (fun k => ea 82 rfl k)) (MN.nat (y := fst + bl.length) hB.1 (by rw [c74 14 (by decide)]; exact hBX.2.1) (by omega) (by omega) (fun k hk => ?_))
    rw [c2 k hk]; exact (f8182 k hk).2
  · refine MN.trans (b := σa) (MN.same (ea 74 rfl 18) (fun k => ea 85 rfl k)) (MN.nat hk18 c3 c5 (by omega) (fun k hk => ?_))
    rw [c7 k hk, frc.1 85 rfl]
theorem REC.prm {n0 fst kc0 rf cf0 kf0 : Nat} {pe0 : Nat → Nat} {bl R : List Nat} {ow : Nat → Int} {pe pt by' : Nat → Nat} {kc cf kg : Nat} {kf gf gk : Nat → Nat} (hF : PGF D m) (hf : f ≤ D.fc) (h : REC D G K1 K2 f n0 fst kc0 rf cf0 kf0 pe0 Bm T1 T' T2 bl R ow pe pt by' kc cf kg kf gf gk σa τ1 σ' τ' σ2 τ2) (wm : frM FM42 FMF τ τa) (om : ORm D f τ τa) (wm1 : frM FMO FMF τa τ1) (om1 : ORm D f τa τ1) (h103 : rd τa 123 103 = i32 (cf0 : Int)) (h107 : rd τa 123 107 = i32 (kf0 : Int)) (hcf : cf0 + 40 * fnN D f (D.bP (f + 1) - D.bP f) + 41 < 30000) (hkf : kf0 + 60 * fnN D f (D.bP (f + 1) - D.bP f) + 61 < 40000) (h63 : rd τ 123 63 = i32 (Bm : Int)) (hBm : Bm ≤ T2.2.1.1) : PRm D f τ τ2 := by
  obtain ⟨hO, ⟨hpt, _⟩, hJ0, _, _, _, _, ⟨nb, hEm⟩, _⟩ := h
  obtain ⟨_, _, _, _, _, _, ⟨_, _, _, _, _, h184⟩, _, _, _, _, _, _, _, _, _, _, _, frx⟩ := hO
  obtain ⟨kN, k190, k195, ko195, koth, ⟨q1, q2, q3, q4, q5, q6⟩, k198, k201, kq, _, ftm⟩ := hEm
  have o := om.trans om1
  obtain ⟨o1, o2, o3, o4, o5⟩ := o
  have em : ∀ j, inL (123 :: FRX) j = false → inL (123 :: FTM) j = false → ∀ i, rd τ2 j i = rd τ1 j i := fun j h1 h2 i => by rw [ftm.rd h2, frx.rd h1]
  have e1 : ∀ j, inL (123 :: FM42) j = false → inL (123 :: FMO) j = false → ∀ i, rd τ1 j i = rd τ j i := fun j h1 h2 i => by rw [wm1.rd h2, wm.rd h1]
  have h63' : rd τ2 123 63 = i32 (T2.2.1.1 : Int) := by
    obtain ⟨_, _, ⟨h1, _⟩, _⟩ := hJ0.2.1
    exact h1.1
  have hN2 : T2.2.1.1 ≤ 100000 := by
    obtain ⟨_, _, ⟨h1, _⟩, _⟩ := hJ0.2.1
    exact h1.2.2.1
  refine ⟨fun p hp => ?_, fun v hv => ?_, fun g hg => ?_, ?_, ?_, ?_, ?_⟩
  · obtain ⟨a1, a2, a3, a4⟩ := kq p (fun j j1 j2 e => by have := (hpt j j1 j2).1; omega)
    rw [em 178 rfl rfl, em 181 rfl rfl, a1, a2, a3, a4, frx.rd (j := 196) rfl, frx.rd (j := 197) rfl, frx.rd (j := 199) rfl, frx.rd (j := 200) rfl, e1 196 rfl rfl, e1 197 rfl rfl, e1 199 rfl rfl, e1 200 rfl rfl]
    exact ⟨(o1 p hp).1, (o1 p hp).2, rfl, rfl, rfl, rfl⟩
  · rw [em 179 rfl rfl]; exact o2 v hv
  · have hne : g ≠ f := by omega
    rw [em 180 rfl rfl, (koth.1 g hne).1, (koth.1 g hne).2, ko195 g hne, frx.rd (j := 190) rfl, frx.rd (j := 191) rfl, frx.rd (j := 195) rfl, e1 190 rfl rfl, e1 191 rfl rfl, e1 195 rfl rfl]
    refine ⟨o3 g hg, rfl, rfl, rfl, fun i hi => ?_⟩
    obtain ⟨a1, a2, a3⟩ := koth.2 g i hne hi
    rw [a1, a2, a3, frx.rd (j := 192) rfl, frx.rd (j := 193) rfl, frx.rd (j := 194) rfl, e1 192 rfl rfl, e1 193 rfl rfl, e1 194 rfl rfl]
    exact ⟨rfl, rfl, rfl⟩
  · exact MN.trans ⟨o4, o5⟩ (MN.same (by rw [ftm.2.1 82 rfl, frx.2.1 82 rfl]) (fun k => em 182 rfl rfl k))
  · refine MN.nat (x := cf0) (by rw [← wm.2 103 rfl]; exact h103) q1 q3 (by omega) (fun k hk => ?_)
    rw [k198 k hk, frx.rd (j := 198) rfl, e1 198 rfl rfl]
  · refine MN.nat (x := kf0) (by rw [← wm.2 107 rfl]; exact h107) q2 q4 (by omega) (fun k hk => ?_)
    rw [k201 k hk, frx.rd (j := 201) rfl, e1 201 rfl rfl]
  · refine MN.nat h63 h63' hBm (by omega) (fun k hk => ?_)
    rw [ftm.rd (j := 184) rfl, h184 k hk, e1 184 rfl rfl]
end NEXTD
