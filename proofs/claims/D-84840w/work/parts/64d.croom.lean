/-! RUNS, COMPONENT: objects are made -/
section CMADE
variable {L : Nat} {xs : Nat → Int32} {σ σ' σ0 σ1 σ2 : tvS} {D : pgD} {rg : rgD} {cd : cdD} {X X' : dyD} {n n' nr wd pgs cs a i st ev B no f k r sz to N p : Nat} {pl : Nat → Nat} {fl : List Nat} {s s' : cSt} {pg : Nat → List Nat} {fn : Nat → Nat × Nat} {bk : Nat → Nat} {x : obD} {v : vaL} {A : alD}
theorem cwd_new (hno : no < 30001) (hv : VOK no v) : cwd (uq pl (no + 1) to) v = cwd pl v := by
  unfold cwd
  by_cases c : v.1 = 2
  · obtain ⟨o, h1, h2, h3⟩ := hv c
    have : oid v = o := oid_of h1 (by omega)
    rw [if_pos c, if_pos c, uq_ne (by omega)]
  · rw [if_neg c, if_neg c]
theorem cwd_self (hno : no < 30001) : cwd (uq pl (no + 1) to) (2, i32 ((no + 1 : Nat) : Int)) = i32 (to : Int) := by
  unfold cwd
  rw [if_pos rfl, oid_of (o := no + 1) rfl (by omega), uq_self]
/-- an object more is there -/
theorem CHp.new (h : CHp D X n pl (plP s' r sz) pg wd σ1) (hN : CNw X n wd pl s' pg r sz to) (hno : X.no < 30000) (hH : HOK X.hp X.no) (hW : ∀ o, RCO X n o → WFo D rg cd (X.hp o)) (hx : WFo D rg cd x) (hsz : szO x = sz) (hg : x.gi = r) (hco : ∀ w, w ∈ x.co → VOK X.no w) (hm : ∀ q, (q < to ∨ to + sz ≤ q) → rd σ2 104 q = rd σ1 104 q ∧ rd σ2 105 q = rd σ1 105 q) (hxw : CObw D (fun _ v => cwd pl v) x to σ2) (e1 : X'.hp = uq X.hp (X.no + 1) x) (hR : ∀ o, RCO X' n' o → o = X.no + 1 ∨ RCO X n o) :
    CHp D X' n' (uq pl (X.no + 1) to) (plP s' r sz) pg wd σ2 := by
  obtain ⟨⟨z, hz, hto⟩, hN2, hN3⟩ := hN
  have hlt : ∀ o, RCO X n o → 1 ≤ o ∧ o ≤ X.no := fun o ⟨k, _, h⟩ => h.lt
  have hzm := List.mem_of_getLast? hz
  refine ⟨fun o ho => ?_, fun o o' ho ho' hne => ?_⟩
  · rw [e1]
    rcases hR o ho with q | q
    · rw [q, uq_self, uq_self]
      refine ⟨⟨z, by rw [hg]; exact hzm, by omega, ?_⟩, hxw.cong (fun _ _ => ⟨rfl, rfl⟩) (fun t v hv => cwd_new (by omega) (hco v (List.mem_of_getElem? hv)))⟩
      have eR : (plP s' r sz).R r = ((s'.R r).1 + 1, (s'.R r).2.1, (s'.R r).2.2 + sz) := uq_self
      rw [hg, hz, if_pos rfl, eR]
      show to + szO x ≤ z * wd + ((s'.R r).2.2 + sz)
      omega
    · obtain ⟨o1, o2⟩ := hlt o q
      have hne : o ≠ X.no + 1 := by omega
      rw [uq_ne hne, uq_ne hne]
      obtain ⟨g1, g2⟩ := h.1 o q
      have hsz' := (hW o q).sz
      have hd := hN3 o q
      exact ⟨g1, g2.cong (fun j hj => hm _ (by omega)) (fun t v hv => cwd_new (by omega) ((hH o o1 o2 v (List.mem_of_getElem? hv)).mono (by omega)))⟩
  · rw [e1]
    rcases hR o ho with q | q
    · rcases hR o' ho' with q' | q'
      · omega
      · have hne' : o' ≠ X.no + 1 := by have := hlt o' q'; omega
        rw [q, uq_self, uq_self, uq_ne hne', uq_ne hne', hsz]
        have := hN3 o' q'
        omega
    · have hne1 : o ≠ X.no + 1 := by have := hlt o q; omega
      rw [uq_ne hne1, uq_ne hne1]
      rcases hR o' ho' with q' | q'
      · rw [q', uq_self, uq_self, hsz]; exact hN3 o q
      · have hne' : o' ≠ X.no + 1 := by have := hlt o' q'; omega
        rw [uq_ne hne', uq_ne hne']; exact h.2 o o' q q' hne
/-- room for an object, or the run is over -/
theorem room_c (hU : PUH X n nr wd N A) (hH : GCH D rg cd X n nr wd) (hC : CSz D rg cd σ) (hP : CPs D X n nr wd pgs s pl pg fl σ) (hF : CMf rg X bk i σ) (hM : CMc fn X.B X.no st ev nr σ) (hf : X.ff i = f) (hk : 1 ≤ k ∧ k ≤ rg.nK f) (hnK : ∀ j, j ≤ i → rg.nK (X.ff j) ≤ 60) (hr : X.aR i k = r) (hrn : r < nr) (hcp : s.cp < 10000000) (hsz : sz ≤ 128) (hsz1 : 1 ≤ sz) (hev : ev ≤ 10000) (hp1 : 1 ≤ pgs) (d : Nat) :
    (∃ (s' : cSt) (σ' : tvS) (to : Nat), putP A N wd pgs ev X.no s r sz = .inl (plP s' r sz) ∧ rn L xs (d + 9) 267 0 [.ref 117, .int (i32 (k : Int)), .int (i32 (sz : Int)), jv] [] σ = some (.inl (some (.int (i32 (to : Int)))), σ') ∧ to < 51200 ∧ CPdn D X n nr wd pgs s' r sz to σ σ') ∨
    (∃ (c : Nat) (s' : cSt) (σ' : tvS), putP A N wd pgs ev X.no s r sz = .inr (c, s') ∧ rn L xs (d + 9) 267 0 [.ref 117, .int (i32 (k : Int)), .int (i32 (sz : Int)), jv] [] σ = some (.inl (some (.int (i32 (-1)))), σ') ∧ (c = 3 ∨ c = 5) ∧ CVR st c s' X.B X.no pgs wd ev σ' ∧ frW RCr σ σ') := by
  obtain ⟨⟨m1, m2, m3, m4, m5⟩, m6, m7⟩ := id hF
  obtain ⟨c1, c2, c3, c4, c5, c6, c7⟩ := id hM
  have hnKi := hnK i (Nat.le_refl _)
  rw [hf] at hnKi
  have hnr2 : nr ≤ 2000 := hP.1.2.2.2.2.2.1
  have hpg : pgs ≤ 400 := hP.1.2.2.2.2.2.2.1
  have hhd := hdF_60 (rg := rg) (ff := X.ff) (i := i) (fun j hj => hnK j (by omega)) i (Nat.le_refl _)
  have ek : (i32 (hdF rg X.ff i : Int) + i32 (k : Int)) - 1 = i32 ((hdF rg X.ff i + k - 1 : Nat) : Int) := by rw [show (1 : Int32) = i32 1 from rfl, i32_add, i32_sub]; congr 1; omega
  have e118 := m7 i k (Nat.le_refl _) hk.1 (by rw [hf]; exact hk.2) (by omega)
  rw [hr] at e118
  have head : ∀ R, rn L xs (d + 8) 247 0 [.ref 103, .int (i32 (r : Int)), .int (i32 (sz : Int)), .int (i32 (ev : Int))] [] σ = R → rn L xs (d + 9) 267 0 [.ref 117, .int (i32 (k : Int)), .int (i32 (sz : Int)), jv] [] σ = bI R (fun a2 s1 => cond (pv_c2 .ne a2 (i32 (-1))) (rn L xs (d + 9) 267 50 [.ref 117, .int (i32 (k : Int)), .int (i32 (sz : Int)), .int a2] [] s1) (bI (rn L xs (d + 8) 249 0 [.ref 103] [] s1) (fun a4 s3 => cond (pv_c1 .eq a4) (rn L xs (d + 9) 267 46 [.ref 117, .int (i32 (k : Int)), .int (i32 (sz : Int)), .int a2] [.ref 117] s3) (rn L xs (d + 9) 267 47 [.ref 117, .int (i32 (k : Int)), .int (i32 (sz : Int)), .int a2] [.int 3, .ref 117] s3)) X0)) X0 := fun R hR => by
    rw [e267_0 (d + 8), m3, ek, c_in (by omega) (by omega) (by omega), i32_ixn (by omega), e118, c7, hR]; rfl
  rcases put_room (L := L) (xs := xs) hU hH hC hP hrn hcp hsz hev c4 d with ⟨s', σ1, to, b1, b2, b3⟩ | ⟨c, s', σ1, b1, b2, b3, b4, b5⟩
  · have ht : to < 51200 := by
      obtain ⟨_, _, _, _, _, _, ⟨_, h2, _⟩, _⟩ := b3
      omega
    refine .inl ⟨s', σ1, to, b1, ?_, ht, b3⟩
    rw [head _ b2, bI_ok rfl, c2_ne (by omega) (by omega) (by omega) (by omega), c_t (by omega), e267_50]
  · obtain ⟨w1, h10, h22, h23, hq⟩ := b5
    obtain ⟨a1, a2, _⟩ := hP.1.1
    have key : ∀ d' : Nat, ∃ σ', rn L xs (d' + 2) 252 0 [.ref 117, .int (i32 (c : Int))] [] σ1 = some (.inl none, σ') ∧ CVR st c s' X.B X.no pgs wd ev σ' ∧ frW [100, 103, 106, 117] σ1 σ' := fun d' => end_c hpg hp1 (by rw [hq 4 (by decide) (by decide) (by decide) (by decide) (by decide) (by decide) (by decide)]; exact a1) (by rw [hq 5 (by decide) (by decide) (by decide) (by decide) (by decide) (by decide) (by decide)]; exact a2) h10 (by rw [hq 20 (by decide) (by decide) (by decide) (by decide) (by decide) (by decide) (by decide)]; exact c2) (by rw [hq 21 (by decide) (by decide) (by decide) (by decide) (by decide) (by decide) (by decide)]; exact c4) h22 h23 (by rw [w1.1 117 rfl]; exact c6) (by rw [w1.1 117 rfl]; exact c7) d'
    obtain ⟨σ', g1, g2, g3⟩ := key (d + 6)
    refine .inr ⟨c, s', σ', b1, ?_, b4, g2, (w1.sub rfl).trans (g3.sub rfl)⟩
    rw [head _ b2, bI_ok rfl, c2_ne (by omega) (by omega) (by omega) (by omega), c_f (by omega)]
    rcases b4 with e | e
    · rw [if_pos e] at b3
      have p1 : rn L xs (d + 8) 249 0 [.ref 103] [] σ1 = some (.inl (some (.int 1)), σ1) := by rw [e249_0, b3, b01_1, cond_true]
      rw [e] at g1
      have g1 : rn L xs (d + 8) 252 0 [.ref 117, .int 3] [] σ1 = some (.inl none, σ') := g1
      rw [bI_ok p1, show pv_c1 .eq (1 : Int32) = false from rfl, cond_false, e267_47 (d + 8), bV_ok g1, e267_50]
    · rw [if_neg (by omega)] at b3
      have p1 : rn L xs (d + 8) 249 0 [.ref 103] [] σ1 = some (.inl (some (.int 0)), σ1) := by rw [e249_0, b3, b01_0, cond_true]
      rw [e] at g1
      have g1 : rn L xs (d + 8) 252 0 [.ref 117, .int 5] [] σ1 = some (.inl none, σ') := g1
      rw [bI_ok p1, show pv_c1 .eq (0 : Int32) = true from rfl, cond_true, e267_46, e267_47 (d + 8), bV_ok g1, e267_50]
end CMADE
