/-! RUNS, COMPONENT: a pair or a cell -/
section CTWO
variable {L : Nat} {xs : Nat → Int32} {σ σ' σ0 σ1 σ2 : tvS} {D : pgD} {rg : rgD} {cd : cdD} {X X' : dyD} {n n' nr wd pgs cs a i st ev B no f k r sz to N p : Nat} {pl : Nat → Nat} {fl : List Nat} {s s' : cSt} {pg : Nat → List Nat} {fn : Nat → Nat × Nat} {bk : Nat → Nat} {x : obD} {v : vaL} {A : alD} {sv : Nat → vaL}
/-- a value is put without asking -/
theorem spush_c (hS : CSt n sv pl σ) (hn : n < 4000) (hv : v.1 ≤ 2) (d : Nat) : ∃ σ', rn L xs (d + 1) 222 0 [.ref 100, .int (cwd pl v), .int (i32 (v.1 : Int))] [] σ = some (.inl none, σ') ∧ CSt (n + 1) (uq sv n v) pl σ' ∧ frW [100, 101, 102] σ σ' := by
  obtain ⟨s1, s2, s3⟩ := hS
  refine ⟨wr (wr (wr σ 101 n (cwd pl v)) 102 n (i32 (v.1 : Int))) 100 2 (i32 ((n + 1 : Nat) : Int)), ?_, ⟨wr_self _ _ _ _, by omega, fun k hk => ?_⟩, ((frW_wr rfl).trans (frW_wr rfl)).trans (frW_wr rfl)⟩
  · rw [e222_0, s1, c_in (by omega) (by omega) (by omega), c_in (by omega) (by omega) (by omega), i32_ixn (by omega), nar8 hv, i32_up]
  · by_cases e : k = n
    · subst e
      rw [uq_self, wr_nek (by decide), wr_nek (by decide), wr_self, wr_nek (by decide), wr_self]; exact ⟨rfl, rfl, hv⟩
    · rw [uq_ne e, wr_nek (by decide), wr_nek (by decide), wr_nei e, wr_nek (by decide), wr_nei e, wr_nek (by decide)]; exact s3 k (by omega)
theorem CSt.place {sv' : Nat → vaL} (h : CSt n sv pl σ) {pl' : Nat → Nat} (e : ∀ k, k < n → sv' k = sv k) (hp : ∀ k, k < n → cwd pl' (sv k) = cwd pl (sv k)) : CSt n sv' pl' σ := by
  obtain ⟨a, b, c⟩ := h
  refine ⟨a, b, fun k hk => ?_⟩
  rw [e k hk, hp k hk]; exact c k hk
theorem ctwo_c {head : Nat} (hRS : RSc D rg cd cs σ) (hU : PUH X n nr wd N A) (hH : GCH D rg cd X n nr wd) (hP : CPs D X n nr wd pgs s pl pg fl σ) (hF : CMf rg X bk i σ) (hM : CMc fn X.B X.no st ev nr σ) (hf : X.ff i = f) (hk : 1 ≤ k ∧ k ≤ rg.nK f) (hnK : ∀ j, j ≤ i → rg.nK (X.ff j) ≤ 60) (hr : X.aR i k = r) (hrn : r < nr) (hcp : s.cp < 10000000) (hev : ev ≤ 10000) (hp1 : 1 ≤ pgs) (ha : rd σ 117 8 = i32 (a : Int)) (hl : a < cs) (hop : rd σ 95 a = i32 (k : Int)) (hn : 2 ≤ n) (hx : x = ((head + 1, p), (r, X.ser r), [X.sv (n - 2), X.sv (n - 1)], [])) (hhead : head = 0 ∨ head = 1) (hX' : X' = (uq X.sv (n - 2) (2, i32 ((X.no + 1 : Nat) : Int)), (uq X.hp (X.no + 1) x, X.no + 1, X.B), X.2.2)) (d : Nat) :
    (∃ (s' : cSt) (σ' : tvS) (pl' : Nat → Nat) (pg' : Nat → List Nat) (fl' : List Nat), putP A N wd pgs ev X.no s r 3 = .inl (plP s' r 3) ∧ rn L xs (d + 10) 266 0 [.ref 117, .int (i32 (head : Int)), jv] [] σ = some (.inl none, σ') ∧ CPs D X' (n - 1) nr wd pgs (plP s' r 3) pl' pg' fl' σ' ∧ CMf rg X' bk i σ' ∧ CMc fn X.B (X.no + 1) st ev nr σ' ∧ rd σ' 117 8 = i32 ((a + 1 : Nat) : Int) ∧ frW RCr σ σ') ∨
    (∃ (c : Nat) (s' : cSt) (σ' : tvS), putP A N wd pgs ev X.no s r 3 = .inr (c, s') ∧ rn L xs (d + 10) 266 0 [.ref 117, .int (i32 (head : Int)), jv] [] σ = some (.inl none, σ') ∧ (c = 3 ∨ c = 5) ∧ CVR st c s' X.B X.no pgs wd ev σ' ∧ frW RCr σ σ') := by
  have hno : X.no < 30000 := hU.2.2.2.2.1
  have hn4 := hP.2.1.2.1
  have pn := next_c (L := L) (xs := xs) hRS ha hl (d + 7)
  rw [hop] at pn
  obtain ⟨σ1, h1⟩ : ∃ σ1, σ1 = wr σ 117 8 (i32 ((a + 1 : Nat) : Int)) := ⟨_, rfl⟩
  rw [← h1] at pn
  have w1 : frW [117] σ σ1 := by rw [h1]; exact frW_wr rfl
  have q117 : ∀ q, q ≠ 8 → rd σ1 117 q = rd σ 117 q := fun q hq => by rw [h1, wr_nei hq]
  have hP1 := hP.fr w1 rfl
  have hF1 : CMf rg X bk i σ1 := hF.fr (fun q hq => q117 q (by omega)) (fun j hj q => by rcases hj with e | e | e | e | e <;> rw [e] <;> exact w1.1 _ rfl q)
  have hM1 : CMc fn X.B X.no st ev nr σ1 := hM.fr (fun q _ => w1.1 103 rfl q) (fun q hq => q117 q (by omega)) (fun j hj q => by rcases hj with e | e <;> rw [e] <;> exact w1.1 _ rfl q)
  have hC1 : CSz D rg cd σ1 := fun j hj => by rw [w1.1 39 rfl, w1.1 84 rfl]; exact hRS.2.2.2.1 j hj
  rcases room_c (L := L) (xs := xs) (sz := 3) hU hH hC1 hP1 hF1 hM1 hf hk hnK hr hrn hcp (by omega) (by omega) hev hp1 d with ⟨s', σ2, to, b1, b2, b3, b4⟩ | ⟨c, s', σ2, b1, b2, b3, b4, b5⟩
  · have b2 : rn L xs (d + 9) 267 0 [.ref 117, .int (i32 (k : Int)), .int 3, jv] [] σ1 = some (.inl (some (.int (i32 (to : Int)))), σ2) := b2
    obtain ⟨pl1, pg1, fl1, g1, g2, g3, g4, g5, g6, g7, g8, g9, g10⟩ := b4
    have hto : to + 3 ≤ 51200 := g4.2.1
    -- three words
    obtain ⟨σ3, e3⟩ : ∃ σ3, σ3 = wr (wr σ2 104 to (i32 (head : Int))) 105 to (i32 ((0 : Nat) : Int)) := ⟨_, rfl⟩
    have p3 := set_c (L := L) (xs := xs) (σ := σ2) (k := to) (y := i32 (head : Int)) (z := 0) (by omega) (by omega) (d + 8)
    rw [← e3] at p3
    have w3 : frW [104, 105] σ2 σ3 := by rw [e3]; exact (frW_wr rfl).trans (frW_wr rfl)
    have hS3 : CSt n X.sv pl1 σ3 := g2.fr (fun j hj q => by rcases hj with e | e | e <;> rw [e] <;> exact w3.1 _ rfl q)
    have et1 : i32 (to : Int) + 1 = i32 ((to + 1 : Nat) : Int) := i32_up to
    have et2 : i32 (to : Int) + 2 = i32 ((to + 2 : Nat) : Int) := by rw [show (2 : Int32) = i32 2 from rfl, i32_add]; congr 1
    have en : i32 ((n - 1 : Nat) : Int) - 1 = i32 ((n - 2 : Nat) : Int) := by rw [show (1 : Int32) = i32 1 from rfl, i32_sub]; congr 1; omega
    obtain ⟨v1, hv1⟩ : ∃ v1, v1 = X.sv (n - 2) := ⟨_, rfl⟩
    obtain ⟨v2, hv2⟩ : ∃ v2, v2 = X.sv (n - 1) := ⟨_, rfl⟩
    have k1 := (g2.2.2 (n - 2) (by omega)).2.2
    have k2 := (g2.2.2 (n - 1) (by omega)).2.2
    rw [← hv1] at k1
    rw [← hv2] at k2
    obtain ⟨σ4, e4⟩ : ∃ σ4, σ4 = wr (wr σ3 104 (to + 1) (cwd pl1 v1)) 105 (to + 1) (i32 (v1.1 : Int)) := ⟨_, rfl⟩
    have p4 := set_c (L := L) (xs := xs) (σ := σ3) (k := to + 1) (y := cwd pl1 v1) (z := v1.1) (by omega) k1 (d + 8)
    rw [← e4] at p4
    have w4 : frW [104, 105] σ3 σ4 := by rw [e4]; exact (frW_wr rfl).trans (frW_wr rfl)
    have hS4 : CSt n X.sv pl1 σ4 := hS3.fr (fun j hj q => by rcases hj with e | e | e <;> rw [e] <;> exact w4.1 _ rfl q)
    obtain ⟨σ5, e5⟩ : ∃ σ5, σ5 = wr (wr σ4 104 (to + 2) (cwd pl1 v2)) 105 (to + 2) (i32 (v2.1 : Int)) := ⟨_, rfl⟩
    have p5 := set_c (L := L) (xs := xs) (σ := σ4) (k := to + 2) (y := cwd pl1 v2) (z := v2.1) (by omega) k2 (d + 8)
    rw [← e5] at p5
    have w5 : frW [104, 105] σ4 σ5 := by rw [e5]; exact (frW_wr rfl).trans (frW_wr rfl)
    have hS5 : CSt n X.sv pl1 σ5 := hS4.fr (fun j hj q => by rcases hj with e | e | e <;> rw [e] <;> exact w5.1 _ rfl q)
    have w25 : frW [104, 105] σ2 σ5 := (w3.trans w4).trans w5
    obtain ⟨σ6, p6, hS6, w6⟩ := drop_c (L := L) (xs := xs) (k := 2) hS5 hn (d + 8)
    have hS6' : CSt (n - 2) X.sv (uq pl1 (X.no + 1) to) σ6 := hS6.place (fun _ _ => rfl) (fun k hk => cwd_new (by omega) (hU.2.2.1 k (by omega)))
    obtain ⟨σ7, p7, hS7, w7⟩ := spush_c (L := L) (xs := xs) (v := (2, i32 ((X.no + 1 : Nat) : Int))) hS6' (by omega) (by show 2 ≤ 2; omega) (d + 8)
    rw [cwd_self (by omega)] at p7
    rw [show n - 2 + 1 = n - 1 by omega] at hS7
    have w57 : frW [100, 101, 102] σ5 σ7 := (w6.sub rfl).trans w7
    have eX1 : X'.hp = uq X.hp (X.no + 1) x := by rw [hX']; rfl
    have eX2 : X'.no = X.no + 1 := by rw [hX']; rfl
    have eX5 : X'.sv = uq X.sv (n - 2) (2, i32 ((X.no + 1 : Nat) : Int)) := by rw [hX']; rfl
    have xco : x.co = [v1, v2] := by rw [hx, hv1, hv2]; rfl
    have xkp : x.kp = [] := by rw [hx]; rfl
    have xkd : x.kd = head + 1 := by rw [hx]; rfl
    have hxsz : szO x = 3 := by unfold szO; rw [if_neg (by omega)]
    have hWx : WFo D rg cd x := ⟨by omega, fun _ => by rw [xco, xkp]; exact ⟨rfl, rfl⟩, fun e => by omega, by rw [xco, xkp]; show 2 + 0 ≤ 100; omega, fun w hw => by
      rw [xco] at hw
      rcases List.mem_cons.mp hw with e | e
      · rw [e]; exact k1
      · rw [List.mem_singleton.mp e]; exact k2, fun r' s' hr' => by rw [xkp] at hr'; cases hr'⟩
    have hcoV : ∀ w, w ∈ x.co → VOK X.no w ∧ ∀ o, ROb X.hp X.no w o → RCO X n o := fun w hw => by
      rw [xco] at hw
      rcases List.mem_cons.mp hw with e | e
      · rw [e, hv1]; exact ⟨hU.2.2.1 _ (by omega), fun o h => ⟨n - 2, by omega, h⟩⟩
      · rw [List.mem_singleton.mp e, hv2]; exact ⟨hU.2.2.1 _ (by omega), fun o h => ⟨n - 1, by omega, h⟩⟩
    have hR : ∀ o, RCO X' (n - 1) o → o = X.no + 1 ∨ RCO X n o := fun o ho => RCO.new (x := x) (n := n) (by omega) hU.1 hU.2.2.1 eX1 eX2 (fun k hk => by
      rw [eX5]
      by_cases e : k = n - 2
      · rw [e, uq_self]; exact .inl rfl
      · rw [uq_ne e]; exact .inr ⟨k, by omega, rfl⟩) hcoV ho
    have hm5 : ∀ q, (q < to ∨ to + 3 ≤ q) → rd σ5 104 q = rd σ2 104 q ∧ rd σ5 105 q = rd σ2 105 q := fun q hq => by
      rw [e5, e4, e3]
      constructor
      · rw [wr_nek (by decide), wr_nei (by omega), wr_nek (by decide), wr_nei (by omega), wr_nek (by decide), wr_nei (by omega)]
      · rw [wr_nei (by omega), wr_nek (by decide), wr_nei (by omega), wr_nek (by decide), wr_nei (by omega), wr_nek (by decide)]
    have hxw : CObw D (fun _ v => cwd pl1 v) x to σ5 := by
      refine ⟨⟨?_, ?_⟩, fun t v hv => ?_, fun t r' s' ht => by rw [xkp] at ht; simp at ht⟩
      · rw [e5, wr_nek (by decide), wr_nei (by omega), e4, wr_nek (by decide), wr_nei (by omega), e3, wr_nek (by decide), wr_self]
        unfold hdO; rw [xkd]
        rcases hhead with e | e <;> rw [e] <;> rfl
      · rw [e5, wr_nei (by omega), wr_nek (by decide), e4, wr_nei (by omega), wr_nek (by decide), e3, wr_self]; rfl
      · rw [xco] at hv
        have ht : t < 2 := (List.getElem?_eq_some_iff.mp hv).1
        have e : t = 0 ∨ t = 1 := by omega
        rcases e with e | e
        · subst e
          have hv : v1 = v := Option.some.inj hv
          rw [← hv, show to + 1 + 0 = to + 1 by omega, e5, wr_nek (by decide), wr_nei (by omega), e4, wr_nek (by decide), wr_self, wr_nei (by omega), wr_nek (by decide), wr_self]; exact ⟨rfl, rfl⟩
        · subst e
          have hv : v2 = v := Option.some.inj hv
          rw [← hv, show to + 1 + 1 = to + 2 by omega, e5, wr_nek (by decide), wr_self, wr_self]; exact ⟨rfl, rfl⟩
    have hH5 := CHp.new (X' := X') (n' := n - 1) g3 g4 hno hU.1 (fun o ho => (hH.2.2 o ho).1) hWx hxsz (by rw [hx]; rfl) (fun w hw => (hcoV w hw).1) hm5 hxw eX1 hR
    have w27 : frW [100, 101, 102, 104, 105] σ2 σ7 := (w25.sub rfl).trans (w57.sub rfl)
    have hC7 : CPo (plP s' r 3) pg1 fl1 [] nr wd pgs σ7 := g1.fr (fun q _ => w27.1 103 rfl q) (fun j hj q => by rcases hj with e | e | e | e | e | e | e <;> rw [e] <;> exact w27.1 _ rfl q)
    have w17 : ∀ q, rd σ7 117 q = rd σ1 117 q := fun q => by rw [w27.1 117 rfl, g9.1 117 rfl]
    refine .inl ⟨s', σ7, uq pl1 (X.no + 1) to, pg1, fl1, b1, ?_, ⟨hC7, by rw [eX5]; exact hS7, hH5.fr (fun q => ⟨w57.1 104 rfl q, w57.1 105 rfl q⟩), by rw [eX2]; exact g5.pl hrn g7⟩, ?_, ?_, ?_, ?_⟩
    · have hS3' := top_c (L := L) (xs := xs) hS3 (by omega) (d + 7)
      have hS4' := top_c (L := L) (xs := xs) hS4 (by omega) (d + 7)
      have c1 := val_c (L := L) (xs := xs) (k := n - 2) hS3 (by omega) (d + 8)
      have c2 := sort_c (L := L) (xs := xs) (k := n - 2) hS3 (by omega) (d + 8)
      have c3 := val_c (L := L) (xs := xs) (k := n - 1) hS4 (by omega) (d + 8)
      have c4 := sort_c (L := L) (xs := xs) (k := n - 1) hS4 (by omega) (d + 8)
      rw [← hv1] at c1 c2
      rw [← hv2] at c3 c4
      have p3 : rn L xs (d + 9) 238 0 [.ref 103, .int (i32 (to : Int)), .int (i32 (head : Int)), .int 0] [] σ2 = some (.inl none, σ3) := p3
      have p6 : rn L xs (d + 9) 223 0 [.ref 100, .int 2] [] σ5 = some (.inl none, σ6) := p6
      have p7 : rn L xs (d + 9) 222 0 [.ref 100, .int (i32 (to : Int)), .int 2] [] σ6 = some (.inl none, σ7) := p7
      rw [e266_0 (d + 9), bI_ok pn, bI_ok b2, i32_raw, c2_ne (by omega) (by omega) (by omega) (by omega), c_t (by omega), e266_16 (d + 9), bV_ok p3, bI_ok hS3', en, bI_ok c1, bI_ok hS3', en, bI_ok c2, et1, bV_ok p4, bI_ok hS4', bI_ok c3, bI_ok hS4', bI_ok c4, et2, bV_ok p5, bV_ok p6, bV_ok p7]
    · exact (hF1.fr (σ' := σ7) (fun q _ => w17 q) (fun j hj q => by rcases hj with e | e | e | e | e <;> rw [e, w27.1 _ rfl, g9.1 _ rfl])).same (by rw [hX']; rfl) (by rw [hX']; rfl)
    · obtain ⟨y1, y2, y3, y4, y5, y6, y7⟩ := hM1
      exact ⟨fun r' hr' => by rw [w27.1 108 rfl, g9.1 108 rfl, w27.1 109 rfl, g9.1 109 rfl]; exact y1 r' hr', by rw [w27.1 103 rfl, g10 20 (by decide) (by decide) (by decide) (by decide) (by decide) (by decide) (by decide) (by decide)]; exact y2, y3, by rw [w27.1 103 rfl]; exact g8, by rw [w17]; exact y5, by rw [w17]; exact y6, by rw [w17]; exact y7⟩
    · rw [w17, h1, wr_self]
    · exact ((w1.sub rfl).trans (g9.sub rfl)).trans (w27.sub rfl)
  · have b2 : rn L xs (d + 9) 267 0 [.ref 117, .int (i32 (k : Int)), .int 3, jv] [] σ1 = some (.inl (some (.int (i32 (-1)))), σ2) := b2
    refine .inr ⟨c, s', σ2, b1, ?_, b3, b4, (w1.sub rfl).trans b5⟩
    rw [e266_0 (d + 9), bI_ok pn, bI_ok b2, i32_raw, c2_ne (by omega) (by omega) (by omega) (by omega), c_f (by omega)]
end CTWO
