/-! RUNS, MODEL: objects are made -/
section MMADE
variable {L : Nat} {xs : Nat → Int32} {τ τ' τ0 τ1 : tvS} {D : pgD} {rg : rgD} {cd : cdD} {vd : Nat → Nat} {N m : Nat} {G : tG} {rr : Nat → Nat} {X X' : dyD} {K : List (Nat × Nat × Nat)} {n n' nr i st mt wd pgs ev fil f p r Nq : Nat} {s : cSt} {fn : Nat → Nat × Nat} {oa : Nat → Nat} {x : obD} {A : alD}
/-- what is reached when an object is new -/
theorem RCO.new (hno : X.no + 1 ≤ 30001) (hH : HOK X.hp X.no) (hV : ∀ k, k < n → VOK X.no (X.sv k)) (e1 : X'.hp = uq X.hp (X.no + 1) x) (e2 : X'.no = X.no + 1) (hsv : ∀ k, k < n' → X'.sv k = (2, i32 ((X.no + 1 : Nat) : Int)) ∨ ∃ k', k' < n ∧ X'.sv k = X.sv k') (hco : ∀ w, w ∈ x.co → VOK X.no w ∧ ∀ o, ROb X.hp X.no w o → RCO X n o) {o : Nat} (h : RCO X' n' o) : o = X.no + 1 ∨ RCO X n o := by
  obtain ⟨k, k1, j, h⟩ := h
  have old : ∀ v o, VOK X.no v → ROb X'.hp X'.no v o → ROb X.hp X.no v o := fun v o hv hr => ROb.back (no := X.no) (no' := X'.no) (by omega) hH hv (by omega) (fun o' _ h2 => by rw [e1, uq_ne (by omega)]) hr
  rcases hsv k k1 with e | ⟨k', k2, e⟩
  · rw [e] at h
    cases j with
    | zero =>
      obtain ⟨h1, h2, h3⟩ := h
      have := (i32_inj (by omega) (by omega) (by omega) (by omega)).mp (congrArg Prod.snd h1)
      left; omega
    | succ j =>
      obtain ⟨o', w, h1, h2, h3, h4, h5⟩ := h
      have := (i32_inj (by omega) (by omega) (by omega) (by omega)).mp (congrArg Prod.snd h1)
      have eo : o' = X.no + 1 := by omega
      rw [eo, e1, uq_self] at h4
      obtain ⟨g1, g2⟩ := hco w h4
      exact .inr (g2 o (old w o g1 ⟨j, h5⟩))
  · rw [e] at h
    exact .inr ⟨k', k2, old _ _ (hV k' k2) ⟨j, h⟩⟩
theorem MOb.made (hO : MOp X n oa fil τ) (h124 : rd τ' 123 124 = i32 ((X.no + 1 : Nat) : Int)) (h164 : rd τ' 123 164 = i32 ((fil + x.co.length + x.kp.length : Nat) : Int)) (hfil : fil ≤ 200000) (hlen : x.co.length + x.kp.length ≤ 100) (hse : x.se < 10000000) (hpt : x.pt < 5000) (hold : ∀ j, j = 225 ∨ j = 226 ∨ j = 227 ∨ j = 228 ∨ j = 229 ∨ j = 230 ∨ j = 231 → ∀ o, o ≠ X.no + 1 → rd τ' j o = rd τ j o) (h234 : ∀ k, k < fil → rd τ' 234 k = rd τ 234 k ∧ rd τ' 235 k = rd τ 235 k) (hx : MOr x (X.no + 1) τ') (hxi : MOi x (X.no + 1) fil τ') (e1 : X'.hp = uq X.hp (X.no + 1) x) (e2 : X'.no = X.no + 1) (hR : ∀ o, RCO X' n' o → o = X.no + 1 ∨ RCO X n o) :
    MOb X' n' (uq oa (X.no + 1) fil) (fil + x.co.length + x.kp.length) τ' := by
  obtain ⟨b, c, d, e, g⟩ := hO
  have hlt : ∀ o, RCO X n o → o ≤ X.no := fun o ⟨k, _, h⟩ => h.lt.2
  refine ⟨by rw [e2]; exact h124, h164, by omega, fun o o1 o2 => ?_, fun o ho => ?_, fun o o' ho ho' hl => ?_⟩
  · rw [e1]
    by_cases q : o = X.no + 1
    · rw [q, uq_self]; exact ⟨hx, hlen, hse, hpt⟩
    · rw [uq_ne q]
      obtain ⟨⟨y1, y2, y3, y4, y5, y6⟩, y7⟩ := d o o1 (by omega)
      refine ⟨⟨?_, ?_, ?_, ?_, ?_, ?_⟩, y7⟩
      · rw [hold 225 (by omega) o q]; exact y1
      · rw [hold 226 (by omega) o q]; exact y2
      · rw [hold 227 (by omega) o q]; exact y3
      · rw [hold 228 (by omega) o q]; exact y4
      · rw [hold 229 (by omega) o q]; exact y5
      · rw [hold 231 (by omega) o q]; exact y6
  · rw [e1]
    rcases hR o ho with q | q
    · rw [q, uq_self, uq_self]; exact ⟨hxi, Nat.le_refl _⟩
    · have hne : o ≠ X.no + 1 := by have := hlt o q; omega
      rw [uq_ne hne, uq_ne hne]
      obtain ⟨⟨y1, y2, y3⟩, y4⟩ := e o q
      refine ⟨⟨by rw [hold 230 (by omega) o hne]; exact y1, fun t v hv => ?_, fun t r' s' hs => ?_⟩, by omega⟩
      · have ht := (List.getElem?_eq_some_iff.mp hv).1
        obtain ⟨z1, z2⟩ := h234 (oa o + t) (by omega)
        rw [z1, z2]; exact y2 t v hv
      · have ht := (List.getElem?_eq_some_iff.mp hs).1
        rw [(h234 (oa o + (X.hp o).co.length + t) (by omega)).2]; exact y3 t r' s' hs
  · rw [e1]
    rcases hR o ho with q | q
    · rcases hR o' ho' with q' | q'
      · omega
      · have := hlt o' q'; omega
    · have hne : o ≠ X.no + 1 := by have := hlt o q; omega
      rw [uq_ne hne, uq_ne hne]
      rcases hR o' ho' with q' | q'
      · rw [q', uq_self]; exact (e o q).2
      · have hne' : o' ≠ X.no + 1 := by have := hlt o' q'; omega
        rw [uq_ne hne']; exact g o o' q q' hl
/-- the region of a part -/
theorem regof_m (hRS : RSm D rg cd vd N G rr τ) (hPG : PGF D m) (hF : MFr X i τ) (hf : X.ff i = f) (hfc : f ≤ D.fc) (h1 : D.bP f ≤ p) (h2 : p < D.bP (f + 1)) (hk : D.K p = 4 ∨ D.K p = 16 ∨ D.K p = 17) (hnu : rg.nu p 0 < 64) (hr : X.aR i (rg.nu p 0) = r) (hr2 : r < 2000) (d : Nat) :
    ∃ τ', rn L xs (d + 3) 401 0 [.ref 123, .int (i32 (p : Int))] [] τ = some (.inl (some (.int (i32 (r : Int)))), τ') ∧ RSm D rg cd vd N G rr τ' ∧ frM [169] [] τ τ' := by
  obtain ⟨f1, f2, f3, f4⟩ := hF
  obtain ⟨_, _, _, d4⟩ := f4 i (Nat.le_refl _)
  obtain ⟨τ', a1, a2, a3⟩ := numb_m (L := L) (xs := xs) hRS hPG hfc h1 h2 hk d
  have e64 : (64 : Int32) * i32 (i : Int) + i32 (rg.nu p 0 : Int) = i32 ((64 * i + rg.nu p 0 : Nat) : Int) := by rw [show (64 : Int32) = i32 64 from rfl, i32_mul, i32_add]; congr 1
  refine ⟨τ', ?_, a2, a3⟩
  rw [e401_0 (d + 2), bI_ok a1, f1, e64, c_in (by omega) (by omega) (by omega), i32_ixn (by omega), a3.rd (j := 213) rfl, d4 _ hnu (by omega), hr]
theorem MSk.fr169 (h : MSk fn s X n nr st oa fil mt pgs wd ev τ) (w : frM [169] [] τ τ') : MSk fn s X n nr st oa fil mt pgs wd ev τ' := by
  obtain ⟨h1, h2, h3, h4, h5, h6, h7, h8, h9⟩ := h
  exact ⟨h1.fr w rfl rfl rfl, h2.fr w ⟨rfl, rfl, rfl, rfl, rfl, rfl, rfl, rfl, rfl⟩ ⟨rfl, rfl⟩, h3.fr w ⟨rfl, rfl, rfl, rfl, rfl, rfl⟩ ⟨rfl, rfl, rfl, rfl, rfl, rfl, rfl, rfl, rfl⟩, h4.fr w rfl rfl, h5, h6, by rw [w.2 119 rfl]; exact h7, by rw [w.2 120 rfl]; exact h8, by rw [w.2 121 rfl]; exact h9⟩
/-- kept regions are told by the row -/
def H200 (D : pgD) (rg : rgD) (cd : cdD) (X : dyD) : Prop := ∀ o, 1 ≤ o → o ≤ X.no → WFo D rg cd (X.hp o) ∧ ((X.hp o).kd = 3 → ∃ f, f ≤ D.fc ∧ D.bP f ≤ (X.hp o).pt ∧ (X.hp o).pt < D.bP (f + 1) ∧ D.K (X.hp o).pt = 17)
theorem H200.row (h : H200 D rg cd X) (hRS : RSm D rg cd vd N G rr τ) : ∀ o, 1 ≤ o → o ≤ X.no → ((X.hp o).kd = 3 → rd τ 200 (X.hp o).pt = i32 ((X.hp o).kp.length : Int)) ∧ ((X.hp o).kd ≠ 3 → (X.hp o).kp = []) ∧ (X.hp o).kd ≤ 3 := fun o o1 o2 => by
  obtain ⟨w, h3⟩ := h o o1 o2
  refine ⟨fun e => ?_, fun e => (w.2.1 e).2, by rcases w.1 with q | q | q <;> omega⟩
  obtain ⟨f, f1, f2, f3, f4⟩ := h3 e
  obtain ⟨cf, kf, _, _, _, _, _, _, k5, _⟩ := (hRS.2.2.2.2 f _ f1 f2 f3).2.2 f4
  rw [k5, (w.2.2.1 e).2.1]
/-- a pair or a cell is made -/
theorem two_m {kind sz : Nat} (hRS : RSm D rg cd vd N G rr τ) (hPG : PGF D m) (hF : MFr X i τ) (hM : MSk fn s X n nr st oa fil mt pgs wd ev τ) (hf : X.ff i = f) (hfc : f ≤ D.fc) (h1 : D.bP f ≤ p) (h2 : p < D.bP (f + 1)) (hk : D.K p = 4 ∨ D.K p = 16) (hnu : rg.nu p 0 < 64) (hr : X.aR i (rg.nu p 0) = r) (hrn : r < nr) (hU : PUH X n nr wd Nq A) (hev : ev ≤ 10000) (hpg : pgs ≤ 400) (h200 : H200 D rg cd X) (hcap : tdS X n (X.no + 1) ≤ 51200) (hmt : mt + 3 < 2147483648) (hn : 2 ≤ n) (hkind : kind = 1 ∨ kind = 2) (hB : X.ser r < 10000000)
    (hx : x = ((kind, p), (r, X.ser r), [X.sv (n - 2), X.sv (n - 1)], [])) (hX' : X' = (uq X.sv (n - 2) (2, i32 ((X.no + 1 : Nat) : Int)), (uq X.hp (X.no + 1) x, X.no + 1, X.B), X.2.2)) (d : Nat) :
    (∃ (s' : cSt) (τ' : tvS) (oa' : Nat → Nat) (fil' mt' : Nat), putP A Nq wd pgs ev X.no s r 3 = .inl (plP s' r 3) ∧ rn L xs (d + 5) 400 0 [.ref 123, .int (i32 (p : Int)), .int (i32 (kind : Int)), jv] [] τ = some (.inl none, τ') ∧ mt' ≤ mt + 3 ∧ MSk fn (plP s' r 3) X' (n - 1) nr st oa' fil' mt' pgs wd ev τ' ∧ RSm D rg cd vd N G rr τ' ∧ frM (169 :: 207 :: 208 :: FPT) (132 :: FPF) τ τ') ∨
    (∃ (c : Nat) (s' : cSt) (τ' : tvS) (mt' : Nat), putP A Nq wd pgs ev X.no s r 3 = .inr (c, s') ∧ rn L xs (d + 5) 400 0 [.ref 123, .int (i32 (p : Int)), .int (i32 (kind : Int)), jv] [] τ = some (.inl none, τ') ∧ mt' ≤ mt + 3 ∧ MVR st c s' X.B X.no mt' τ' ∧ frM RAr RFl τ τ' ∧ RSm D rg cd vd N G rr τ') := by
  have hno : X.no < 30000 := hU.2.2.2.2.1
  have hnr2 : nr ≤ 2000 := hM.2.2.1.1.2.1
  have hbl := hPG.1
  have hble := (hPG.le (D.fc + 1 - (f + 1)) (f + 1) (by omega)).1
  obtain ⟨τ1, a1, a2, a3⟩ := regof_m (L := L) (xs := xs) hRS hPG hF hf hfc h1 h2 (by omega) hnu hr (by omega) (d + 1)
  have hM1 := hM.fr169 a3
  rcases make_m (L := L) (xs := xs) (kind := kind) (part := p) (r := r) (sz := 3) hU hM1 hrn (by omega) hev hpg (h200.row a2) hcap hmt d with ⟨s', τ2, oa', fil', mt', b1, b2, b3, b4, b5, b6, b7, b8, b9, b10, b11, b12, b13⟩ | ⟨c, s', τ2, mt', b1, b2, b3, b4⟩
  · obtain ⟨t1, t2, t3⟩ := b5
    obtain ⟨m1, m2, m3, m4, m5, m6, m7, m8, m9⟩ := b10
    have en2 : i32 (n : Int) - 2 = i32 ((n - 2 : Nat) : Int) := by rw [show (2 : Int32) = i32 2 from rfl, i32_sub]; congr 1; omega
    have en1 : i32 (n : Int) - 1 = i32 ((n - 1 : Nat) : Int) := by rw [show (1 : Int32) = i32 1 from rfl, i32_sub]; congr 1; omega
    have en11 : i32 ((n - 1 : Nat) : Int) - 1 = i32 ((n - 2 : Nat) : Int) := by rw [show (1 : Int32) = i32 1 from rfl, i32_sub]; congr 1; omega
    obtain ⟨q1, q2⟩ := t3 (n - 2) (by omega)
    obtain ⟨q3, q4⟩ := t3 (n - 1) (by omega)
    obtain ⟨τ3, c1, c2, c3, c4, c5, c6⟩ := fill_m (L := L) (xs := xs) b11.1 (by omega) (i32 ((X.sv (n - 2)).1 : Int)) (X.sv (n - 2)).2 (d + 3)
    obtain ⟨τ4, d1, d2, d3, d4, d5, d6⟩ := fill_m (L := L) (xs := xs) c2 (by omega) (i32 ((X.sv (n - 1)).1 : Int)) (X.sv (n - 1)).2 (d + 3)
    obtain ⟨τ5, h5⟩ : ∃ τ5, τ5 = wr (wr (wr (wr τ4 231 (X.no + 1) 2) 123 132 (i32 ((n - 1 : Nat) : Int))) 207 (n - 2) 2) 208 (n - 2) (i32 ((X.no + 1 : Nat) : Int)) := ⟨_, rfl⟩
    have w24 : frM [234, 235] [164] τ2 τ4 := c6.trans d6
    have w45 : frM [231, 207, 208] [132] τ4 τ5 := by rw [h5]; exact (((frM_wr rfl (by decide)).trans (frM_w rfl)).trans (frM_wr rfl (by decide))).trans (frM_wr rfl (by decide))
    have w25 : frM [207, 208, 231, 234, 235] [132, 164] τ2 τ5 := (w24.sub rfl rfl).trans (w45.sub rfl rfl)
    have s207 : rd τ3 207 (n - 1) = i32 ((X.sv (n - 1)).1 : Int) ∧ rd τ3 208 (n - 1) = (X.sv (n - 1)).2 ∧ rd τ3 123 132 = i32 (n : Int) := ⟨by rw [c6.rd (j := 207) rfl]; exact q3, by rw [c6.rd (j := 208) rfl]; exact q4, by rw [c6.2 132 rfl]; exact t1⟩
    have s132 : rd τ4 123 132 = i32 (n : Int) := by rw [d6.2 132 rfl]; exact s207.2.2
    have k231 : ∀ j o, j ≠ 207 → j ≠ 208 → j ≠ 123 → ¬ (j = 231 ∧ o = X.no + 1) → rd τ5 j o = rd τ4 j o := fun j o j1 j2 j3 j4 => by
      rw [h5, wr_nek j2, wr_nek j1, wr_nek j3]
      by_cases e : j = 231
      · rw [e, wr_nei (fun e' => j4 ⟨e, e'⟩)]
      · rw [wr_nek e]
    have eX1 : X'.hp = uq X.hp (X.no + 1) x := by rw [hX']; rfl
    have eX2 : X'.no = X.no + 1 := by rw [hX']; rfl
    have eX3 : X'.B = X.B := by rw [hX']; rfl
    have eX4 : X'.ser = X.ser := by rw [hX']; rfl
    have eX5 : X'.sv = uq X.sv (n - 2) (2, i32 ((X.no + 1 : Nat) : Int)) := by rw [hX']; rfl
    have xco : x.co = [X.sv (n - 2), X.sv (n - 1)] := by rw [hx]; rfl
    have xkp : x.kp = [] := by rw [hx]; rfl
    have hkd3 : x.kd ≠ 3 := by rw [hx]; show kind ≠ 3; omega
    have hxsz : szO x = 3 := by unfold szO; rw [if_neg hkd3]
    have hR : ∀ o, RCO X' (n - 1) o → o = X.no + 1 ∨ RCO X n o := fun o ho => RCO.new (x := x) (n := n) (by omega) hU.1 hU.2.2.1 eX1 eX2 (fun k hk => by
      rw [eX5]
      by_cases e : k = n - 2
      · rw [e, uq_self]; exact .inl rfl
      · rw [uq_ne e]; exact .inr ⟨k, by omega, rfl⟩) (fun w hw => by
      rw [xco] at hw
      rcases List.mem_cons.mp hw with e | e
      · rw [e]; exact ⟨hU.2.2.1 _ (by omega), fun o h => ⟨n - 2, by omega, h⟩⟩
      · rw [List.mem_singleton.mp e]; exact ⟨hU.2.2.1 _ (by omega), fun o h => ⟨n - 1, by omega, h⟩⟩) ho
    have hMO : MOb X' (n - 1) (uq oa' (X.no + 1) fil') (fil' + x.co.length + x.kp.length) τ5 := by
      refine MOb.made (x := x) b11 (by rw [w25.2 124 rfl]; exact m1) (by rw [w45.2 164 rfl, d2, xco, xkp]; rfl) b4 (by rw [xco, xkp]; show 2 + 0 ≤ 100; omega) (by rw [hx]; exact hB) (by rw [hx]; show p < 5000; omega) (fun j hj o ho => ?_) (fun k hk => ?_) ⟨?_, ?_, ?_, ?_, ?_, ?_⟩ ⟨?_, ?_, ?_⟩ eX1 eX2 hR
      · rw [k231 j o (by omega) (by omega) (by omega) (fun e => ho e.2)]
        rcases hj with e | e | e | e | e | e | e <;> rw [e] <;> exact w24.rd rfl o
      · rw [k231 234 k (by decide) (by decide) (by decide) (fun e => by omega), k231 235 k (by decide) (by decide) (by decide) (fun e => by omega), (d5 k (by omega)).1, (d5 k (by omega)).2, (c5 k (by omega)).1, (c5 k (by omega)).2]
        exact ⟨rfl, rfl⟩
      · rw [w25.rd (j := 225) rfl, m2, hx]; rfl
      · rw [w25.rd (j := 226) rfl, m6, hxsz]
      · rw [w25.rd (j := 227) rfl, m4, hx]; rfl
      · rw [w25.rd (j := 228) rfl, m5, hx]; rfl
      · rw [w25.rd (j := 229) rfl, m3, hx]; rfl
      · rw [h5, wr_nek (by decide), wr_nek (by decide), wr_nek (by decide), wr_self, xco]; rfl
      · rw [w25.rd (j := 230) rfl, m7]
      · intro t v hv
        rw [xco] at hv
        rw [k231 234 _ (by decide) (by decide) (by decide) (fun e => by omega), k231 235 _ (by decide) (by decide) (by decide) (fun e => by omega)]
        have ht := (List.getElem?_eq_some_iff.mp hv).1
        have ht : t < 2 := ht
        have e : t = 0 ∨ t = 1 := by omega
        rcases e with e | e
        · subst e
          have hv : X.sv (n - 2) = v := Option.some.inj hv
          rw [← hv, Nat.add_zero, (d5 fil' (by omega)).1, (d5 fil' (by omega)).2]; exact ⟨c3, c4⟩
        · subst e
          have hv : X.sv (n - 1) = v := Option.some.inj hv
          rw [← hv]; exact ⟨d3, d4⟩
      · intro t r' s'' hs; rw [xkp] at hs; simp at hs
    have hSt : MSt (n - 1) X'.sv τ5 := by
      refine ⟨?_, by omega, fun k hk => ?_⟩
      · rw [h5, wr_nek (by decide), wr_nek (by decide), wr_self]
      · rw [eX5]
        by_cases e : k = n - 2
        · subst e
          rw [uq_self, h5, wr_nek (by decide), wr_self, wr_self]; exact ⟨rfl, rfl⟩
        · rw [uq_ne e, h5, wr_nek (by decide), wr_nei e, wr_nek (by decide), wr_nek (by decide), wr_nei e, wr_nek (by decide), wr_nek (by decide), wr_nek (by decide), w24.rd (j := 207) rfl, w24.rd (j := 208) rfl]
          exact t3 k (by omega)
    have w15 : frM (169 :: 207 :: 208 :: FPT) (132 :: FPF) τ τ5 := ((a3.sub rfl rfl).trans (b13.sub rfl rfl)).trans (w25.sub rfl rfl)
    refine .inl ⟨s', τ5, _, _, mt', b1, ?_, b3, ⟨hSt, hMO, ?_, ?_, ?_, ?_, ?_, ?_, ?_⟩, a2.fr (((b13.sub rfl rfl).trans (w25.sub rfl rfl)) : frM (207 :: 208 :: FPT) (132 :: FPF) τ1 τ5) rfl rfl rfl, w15⟩
    · have b2 : rn L xs (d + 4) 402 0 [.ref 123, .int (i32 (kind : Int)), .int (i32 (p : Int)), .int (i32 (r : Int)), .int 3] [] τ1 = some (.inl (some (.int (i32 ((X.no + 1 : Nat) : Int)))), τ2) := b2
      rw [e400_0 (d + 4), bI_ok a1, bI_ok b2, c1_ne (by omega) (by omega), c_t (by omega), e400_18 (d + 4), t1, en2, c_in (by omega) (by omega) (by omega), c_in (by omega) (by omega) (by omega), i32_ixn (by omega), q1, q2, bV_ok c1, s207.2.2, en1, c_in (by omega) (by omega) (by omega), c_in (by omega) (by omega) (by omega), i32_ixn (by omega), s207.1, s207.2.1, bV_ok d1, c_in (by omega) (by omega) (by omega), s132, en1, en11, c_in (by omega) (by omega) (by omega), c_in (by omega) (by omega) (by omega), i32_ixn (by omega), i32_ixn (by omega), ← h5]
    · rw [eX3, eX4]
      exact b6.fr w25 ⟨rfl, rfl, rfl, rfl, rfl, rfl⟩ ⟨rfl, rfl, rfl, rfl, rfl, rfl, rfl, rfl, rfl⟩
    · rw [eX2]; exact b12.fr w25 rfl rfl
    · rw [eX2]
      obtain ⟨z1, z2, z3, z4⟩ := b7
      have eR : (plP s' r 3).R r = ((s'.R r).1 + 1, (s'.R r).2.1, (s'.R r).2.2 + 3) := uq_self
      refine ⟨z1, z2, ?_, fun q hq => ?_⟩
      · have : sumF (fun q => (uq s'.R r ((s'.R r).1 + 1, (s'.R r).2.1, (s'.R r).2.2 + 3) q).2.1) 0 nr + (s'.R r).2.1 = sumF (fun q => (s'.R q).2.1) 0 nr + (s'.R r).2.1 := sum_uq (R := s'.R) (q := r) (z := ((s'.R r).1 + 1, (s'.R r).2.1, (s'.R r).2.2 + 3)) nr hrn
        show sumF (fun q => (uq s'.R r ((s'.R r).1 + 1, (s'.R r).2.1, (s'.R r).2.2 + 3) q).2.1) 0 nr = s'.U
        omega
      · have := z4 q hq
        by_cases e : q = r
        · rw [e, eR]; exact ⟨by have := (z4 r hrn).1; show (s'.R r).1 + 1 ≤ _; omega, b9⟩
        · rw [show (plP s' r 3).R q = s'.R q from uq_ne e]; exact ⟨by omega, this.2⟩
    · exact b8
    · rw [w15.2 119 rfl]; exact hM.2.2.2.2.2.2.1
    · rw [w15.2 120 rfl]; exact hM.2.2.2.2.2.2.2.1
    · rw [w15.2 121 rfl]; exact hM.2.2.2.2.2.2.2.2
  · have hno1 : rd τ1 123 124 = i32 (X.no : Int) := hM1.2.1.1
    obtain ⟨g1, g2⟩ := b4.over rfl rfl (fun τ' w _ => by rw [w.2 124 rfl]; exact hno1)
    refine .inr ⟨c, s', τ2, mt', b1, ?_, b3, g1, (a3.sub rfl rfl).trans g2, a2.mov b4 rfl rfl rfl⟩
    have b2 : rn L xs (d + 4) 402 0 [.ref 123, .int (i32 (kind : Int)), .int (i32 (p : Int)), .int (i32 (r : Int)), .int 3] [] τ1 = some (.inl (some (.int 0)), τ2) := b2
    rw [e400_0 (d + 4), bI_ok a1, bI_ok b2]; rfl
end MMADE
