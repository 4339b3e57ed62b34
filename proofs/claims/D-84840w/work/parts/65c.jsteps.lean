/-! RUNS, BOTH: steps -/
def CGo (L : Nat) (xs : Nat → Int32) (d : Nat) (σ σ' : tvS) : Prop := ∀ x1 x2 : Int32, rn L xs (d + 12) 260 4 [.ref 117, .int x1, .int x2, .int 1] [] σ = rn L xs (d + 12) 260 4 [.ref 117, .int x1, .int x2, .int 1] [] σ'
def CEn (L : Nat) (xs : Nat → Int32) (d : Nat) (σ σ' : tvS) : Prop := ∀ x1 x2 : Int32, rn L xs (d + 12) 260 4 [.ref 117, .int x1, .int x2, .int 1] [] σ = some (.inl (some (.int x2)), σ')
def MGo (L : Nat) (xs : Nat → Int32) (d : Nat) (τ τ' : tvS) : Prop := ∀ x1 x2 : Int32, rn L xs (d + 7) 398 46 [.ref 123, .int x1, .int x2, .int 1] [] τ = rn L xs (d + 7) 398 46 [.ref 123, .int x1, .int x2, .int 1] [] τ'
section JSTEPS
variable {L : Nat} {xs : Nat → Int32} {σ σ' σ1 τ τ' : tvS} {D : pgD} {m : Nat} {rg : rgD} {cd : cdD} {T : tsD} {vd W : Nat → Nat} {M wd pgs ev N : Nat} {G : tG} {rr : Nat → Nat} {R : Nat → Int32} {cs : Nat} {X X' : dyD} {K K' : List (Nat × Nat × Nat)} {i : Nat} {E : Nat → trE} {n n' : Nat} {ty : Nat → trE} {nr nr' : Nat} {av : Nat → Prop} {Lv dd st w p b a κ : Nat} {fn fn' : Nat → Nat × Nat} {s s' : cSt} {oa : Nat → Nat} {fil mt : Nat} {pl : Nat → Nat} {pg : Nat → List Nat} {fl : List Nat} {bk : Nat → Nat} {d : Nat}
theorem CGo.refl : CGo L xs d σ σ := fun _ _ => rfl
theorem CGo.trans (h : CGo L xs d σ σ1) (g : CGo L xs d σ1 σ') : CGo L xs d σ σ' := fun x1 x2 => (h x1 x2).trans (g x1 x2)
theorem CGo.en (h : CGo L xs d σ σ1) (g : CEn L xs d σ1 σ') : CEn L xs d σ σ' := fun x1 x2 => (h x1 x2).trans (g x1 x2)
/-- what the model plans comes next -/
theorem mgo_on (hC : MCt ((w, p, b) :: K) τ) (h1 : rd τ 123 122 = 1) (hK : K.length < 130000) (hw : 1 ≤ w ∧ w < 9) (hr : rn L xs (d + 6) 399 0 [.ref 123, .int (i32 (w : Int)), .int (i32 (p : Int)), .int (i32 (b : Int))] [] (wr τ 123 135 (i32 (K.length : Int))) = some (.inl none, τ')) : MGo L xs d τ τ' := by
  intro x1 x2
  obtain ⟨c1, c2, c3, c4, _⟩ := hC
  have c1 : rd τ 123 135 = i32 ((K.length + 1 : Nat) : Int) := c1
  have em : i32 ((K.length + 1 : Nat) : Int) - 1 = i32 (K.length : Int) := by rw [show (1 : Int32) = i32 1 from rfl, i32_sub]; congr 1; omega
  have c2 : rd τ 209 K.length = i32 (w : Int) := c2
  have c3 : rd τ 210 K.length = i32 (p : Int) := c3
  have c4 : rd τ 211 K.length = i32 (b : Int) := c4
  conv => lhs; rw [e398_46 (d + 6), show pv_c1 .eq (1 : Int32) = false from rfl, cond_false, h1, show pv_c2 .ne (1 : Int32) 1 = false from rfl, cond_false, c1, c1_ne (by omega) (by omega), c_t (by omega), e398_73 (d + 6), c1, em, c_in (by omega) (by omega) (by omega), i32_ixn (by omega), c2, c1_eq (by omega) (by omega), c_f (by omega), c_in (by omega) (by omega) (by omega), c_in (by omega) (by omega) (by omega), c_in (by omega) (by omega) (by omega), c3, c4, bV_ok hr]
theorem RMm.pop {e : Nat × Nat × Nat} (h : RMm D rg cd vd N G rr wd pgs ev X (e :: K) i n nr fn s st oa fil mt τ) : RMm D rg cd vd N G rr wd pgs ev X K i n nr fn s st oa fil mt (wr τ 123 135 (i32 (K.length : Int))) ∧ frM [] [135] τ (wr τ 123 135 (i32 (K.length : Int))) := by
  obtain ⟨h1, h2, h3, h4, h5⟩ := h
  have w : frM [] [135] τ (wr τ 123 135 (i32 (K.length : Int))) := frM_w rfl
  refine ⟨⟨h1.fr w rfl rfl rfl, ⟨wr_self _ _ _ _, MCl.fr K h2.2.2.2.2 (fun j _ => ⟨wr_nek (by decide), wr_nek (by decide), wr_nek (by decide)⟩)⟩, h3.fr w rfl rfl rfl rfl rfl rfl, h4.stack (X' := X) (n' := n) (h4.1.fr w rfl rfl rfl) w rfl rfl rfl rfl rfl rfl (fun _ h => h), by rw [w.2 122 rfl]; exact h5⟩, w⟩
/-- the component performs a word and goes on -/
theorem cgo_on (hR : RSc D rg cd cs σ) (ha : rd σ 117 8 = i32 (a : Int)) (hl : a < cs) (hop : rd σ 95 a = i32 (κ : Int)) (hκ : 1 ≤ κ ∧ κ < 28) (hp : rn L xs (d + 11) 262 (t262 κ) [.ref 117, .int (i32 (κ : Int)), jv, jv] [] (wr σ 117 8 (i32 ((a + 1 : Nat) : Int))) = some (.inl none, σ')) (h5 : rd σ' 117 5 = 1) : CGo L xs d σ σ' := fun x1 x2 => by
  rw [go_one (L := L) (xs := xs) hR ha hl hop hκ (d + 9) hp, go_more h5]
theorem cgo_end {c : Nat} (hR : RSc D rg cd cs σ) (ha : rd σ 117 8 = i32 (a : Int)) (hl : a < cs) (hop : rd σ 95 a = i32 (κ : Int)) (hκ : 1 ≤ κ ∧ κ < 28) (hp : rn L xs (d + 11) 262 (t262 κ) [.ref 117, .int (i32 (κ : Int)), jv, jv] [] (wr σ 117 8 (i32 ((a + 1 : Nat) : Int))) = some (.inl none, σ')) (h5 : rd σ' 117 5 = i32 (c : Int)) (hc : c ≠ 1 ∧ c < 10) : CEn L xs d σ σ' := fun x1 x2 => by
  rw [go_one (L := L) (xs := xs) hR ha hl hop hκ (d + 9) hp, go_over h5 hc]
/-- the component's state behind the word itself -/
theorem RMc.next (h : RMc D rg cd R cs wd pgs ev X i n nr fn s st pl pg fl bk a σ) : RMc D rg cd R cs wd pgs ev X i n nr fn s st pl pg fl bk (a + 1) (wr σ 117 8 (i32 ((a + 1 : Nat) : Int))) := by
  obtain ⟨h1, h2, h3, h4, h5, h6⟩ := h
  have w : frW [117] σ (wr σ 117 8 (i32 ((a + 1 : Nat) : Int))) := frW_wr rfl
  exact ⟨h1.fr w rfl, h2.fr w rfl, h3.fr (fun q hq => wr_nei (by omega)) (fun j hj q => wr_nek (by omega)), h4.fr (fun q _ => wr_nek (by decide)) (fun q hq => wr_nei (by omega)) (fun j hj q => wr_nek (by omega)), wr_self _ _ _ _, by rw [← h6]; funext q; exact wr_nek (by decide)⟩
theorem RMc.at' (h : RMc D rg cd R cs wd pgs ev X i n nr fn s st pl pg fl bk a σ) (q : Nat) : rd σ 95 q = R q := by rw [h.2.2.2.2.2]
/-- only the stack (and where the component is) is other -/
theorem RMc.stack {a' : Nat} (h : RMc D rg cd R cs wd pgs ev X i n nr fn s st pl pg fl bk a σ) (hS : CSt n' X'.sv pl σ') (w : frW [100, 101, 102, 117] σ σ') (h117 : ∀ q, q ≠ 8 → rd σ' 117 q = rd σ 117 q) (ha : rd σ' 117 8 = i32 (a' : Int)) (e1 : X'.hp = X.hp) (e2 : X'.no = X.no) (e3 : X'.B = X.B) (e4 : X'.fr = X.fr) (e5 : X'.aR = X.aR) (hR : ∀ o, RCO X' n' o → RCO X n o) : RMc D rg cd R cs wd pgs ev X' i n' nr fn s st pl pg fl bk a' σ' := by
  obtain ⟨h1, h2, h3, h4, h5, h6⟩ := h
  refine ⟨h1.fr w rfl, h2.stack hS w e1 e2 hR, (h3.fr (fun q hq => h117 q (by omega)) (fun j hj q => by rcases hj with e | e | e | e | e <;> rw [e] <;> exact w.1 _ rfl q)).same e4 e5, ?_, ha, by rw [← h6]; funext q; exact w.1 95 rfl q⟩
  rw [e2, e3]
  exact h4.fr (fun q _ => w.1 103 rfl q) (fun q hq => h117 q (by omega)) (fun j hj q => by rcases hj with e | e <;> rw [e] <;> exact w.1 _ rfl q)
/-- it goes on elsewhere, values slide -/
theorem tail_go {sl e : Nat} (h : RMc D rg cd R cs wd pgs ev X i n nr fn s st pl pg fl bk a σ) (hT : TLc R a sl e) (he : e < cs) (hn : sl + 1 ≤ n) (hX : X' = (uq X.sv (n - 1 - sl) (X.sv (n - 1)), X.2)) (hRc : ∀ o, RCO X' (n - sl) o → RCO X n o) (hv2 : ∀ k, k < n → (X.sv k).1 ≤ 2) :
    ∃ σ', CGo L xs d σ σ' ∧ RMc D rg cd R cs wd pgs ev X' i (n - sl) nr fn s st pl pg fl bk e σ' ∧ frW RCr σ σ' := by
  have h0 := h
  have hsame : sl = 0 → CSt (n - sl) X'.sv pl σ := fun e0 => by
    subst e0
    rw [Nat.sub_zero, hX]
    refine h.2.1.2.1.place (fun k hk => ?_) (fun _ _ => rfl)
    show uq X.sv (n - 1 - 0) (X.sv (n - 1)) k = _
    by_cases q : k = n - 1 - 0
    · rw [q, uq_self]; rfl
    · rw [uq_ne q]
  have goto : ∀ (σ1 : tvS) (a1 : Nat) (X1 : dyD) (n1 : Nat), RMc D rg cd R cs wd pgs ev X1 i n1 nr fn s st pl pg fl bk a1 σ1 → a1 + 1 < cs → R a1 = 21 → R (a1 + 1) = i32 (e : Int) → ∃ σ', CGo L xs d σ1 σ' ∧ RMc D rg cd R cs wd pgs ev X1 i n1 nr fn s st pl pg fl bk e σ' ∧ frW RCr σ1 σ' := by
    intro σ1 a1 X1 n1 hm hlt r1 r2
    have hm' := hm.next
    obtain ⟨σ2, e2⟩ : ∃ σ2, σ2 = wr (wr σ1 117 8 (i32 ((a1 + 1 : Nat) : Int))) 117 8 (i32 (e : Int)) := ⟨_, rfl⟩
    have w2 : frW [117] σ1 σ2 := by rw [e2]; exact (frW_wr rfl).trans (frW_wr rfl)
    have q2 : ∀ q, q ≠ 8 → rd σ2 117 q = rd σ1 117 q := fun q hq => by rw [e2, wr_nei hq, wr_nei hq]
    have h1 := hm.1.1
    have p1 : rn L xs (d + 10) 212 0 [.ref 94, .int (i32 ((a1 + 1 : Nat) : Int))] [] (wr σ1 117 8 (i32 ((a1 + 1 : Nat) : Int))) = some (.inl (some (.int (i32 (e : Int)))), wr σ1 117 8 (i32 ((a1 + 1 : Nat) : Int))) := by
      rw [e212_0, c_in (by omega) (by show ((a1 + 1 : Nat) : Int) < (ln σ1 95 : Int); omega) (by show ln σ1 95 ≤ _; omega), i32_ixn (by omega), hm'.at', r2]
    refine ⟨σ2, cgo_on hm.1 hm.2.2.2.2.1 (by omega) (κ := 21) (by rw [hm.at', r1]; rfl) (by omega) ?_ ?_, hm.stack (hm.2.1.2.1.fr (fun j hj q => by rcases hj with e | e | e <;> rw [e] <;> exact w2.1 _ rfl q)) (w2.sub rfl) q2 (by rw [e2, wr_self]) rfl rfl rfl rfl rfl (fun _ h => h), w2.sub rfl⟩
    · rw [show t262 21 = 305 from rfl, e262_305 (d + 10), wr_self, bI_ok p1, ← e2, e262_386]
    · rw [q2 5 (by decide)]; exact hm.2.2.2.1.2.2.2.2.1
  rcases hT with ⟨e0, e1 | ⟨e1, e2, e3⟩⟩ | ⟨e0, e1, e2, e3⟩ | ⟨e0, e1, e2, e3, e4, e5⟩
  · subst e1
    refine ⟨σ, CGo.refl, h.stack (hsame e0) frW.refl (fun _ _ => rfl) h.2.2.2.2.1 (by rw [hX]; rfl) (by rw [hX]; rfl) (by rw [hX]; rfl) (by rw [hX]; rfl) (by rw [hX]; rfl) hRc, frW.refl⟩
  · obtain ⟨σ', g1, g2, g3⟩ := goto σ a X n h (by omega) e2 e3
    refine ⟨σ', g1, g2.stack (X' := X') (n' := n - sl) ?_ frW.refl (fun _ _ => rfl) g2.2.2.2.2.1 (by rw [hX]; rfl) (by rw [hX]; rfl) (by rw [hX]; rfl) (by rw [hX]; rfl) (by rw [hX]; rfl) hRc, g3⟩
    subst e0
    rw [Nat.sub_zero, hX]
    refine g2.2.1.2.1.place (fun k hk => ?_) (fun _ _ => rfl)
    show uq X.sv (n - 1 - 0) (X.sv (n - 1)) k = _
    by_cases q : k = n - 1 - 0
    · rw [q, uq_self]; rfl
    · rw [uq_ne q]
  · have hm' := h.next
    have p1 := next_c (L := L) (xs := xs) hm'.1 hm'.2.2.2.2.1 (by omega) (d + 8)
    rw [hm'.at', e2] at p1
    obtain ⟨σ1, e4⟩ : ∃ σ1, σ1 = wr (wr σ 117 8 (i32 ((a + 1 : Nat) : Int))) 117 8 (i32 ((a + 1 + 1 : Nat) : Int)) := ⟨_, rfl⟩
    rw [← e4] at p1
    have w1 : frW [117] σ σ1 := by rw [e4]; exact (frW_wr rfl).trans (frW_wr rfl)
    have hS1 : CSt n X.sv pl σ1 := h.2.1.2.1.fr (fun j hj q => by rcases hj with e | e | e <;> rw [e] <;> exact w1.1 _ rfl q)
    obtain ⟨σ2, b1, b2, b3⟩ := slide_c (L := L) (xs := xs) (k := 1) hS1 (by omega) (d + 8)
    have b1 : rn L xs (d + 10) 224 0 [.ref 100, .int 1] [] σ1 = some (.inl none, σ2) := b1
    have w2 : frW [100, 101, 102, 117] σ σ2 := (w1.sub rfl).trans (b3.sub rfl)
    have q2 : ∀ q, q ≠ 8 → rd σ2 117 q = rd σ 117 q := fun q hq => by rw [b3.1 117 rfl, e4, wr_nei hq, wr_nei hq]
    subst e0
    refine ⟨σ2, cgo_on h.1 h.2.2.2.2.1 (by omega) (κ := 23) (by rw [h.at', e1]; rfl) (by omega) ?_ ?_, h.stack (X' := X') (n' := n - 1) (by rw [hX]; exact b2) w2 q2 (by rw [b3.1 117 rfl, e4, wr_self, e3]) (by rw [hX]; rfl) (by rw [hX]; rfl) (by rw [hX]; rfl) (by rw [hX]; rfl) (by rw [hX]; rfl) hRc, w2.sub rfl⟩
    · rw [show t262 23 = 334 from rfl, e262_334 (d + 10), bI_ok p1, bV_ok b1, e262_386]
    · rw [q2 5 (by decide)]; exact h.2.2.2.1.2.2.2.2.1
  · have hm' := h.next
    have p1 := next_c (L := L) (xs := xs) hm'.1 hm'.2.2.2.2.1 (by omega) (d + 8)
    rw [hm'.at', e3] at p1
    obtain ⟨σ1, e6⟩ : ∃ σ1, σ1 = wr (wr σ 117 8 (i32 ((a + 1 : Nat) : Int))) 117 8 (i32 ((a + 1 + 1 : Nat) : Int)) := ⟨_, rfl⟩
    rw [← e6] at p1
    have w1 : frW [117] σ σ1 := by rw [e6]; exact (frW_wr rfl).trans (frW_wr rfl)
    have hS1 : CSt n X.sv pl σ1 := h.2.1.2.1.fr (fun j hj q => by rcases hj with e | e | e <;> rw [e] <;> exact w1.1 _ rfl q)
    obtain ⟨σ2, b1, b2, b3⟩ := slide_c (L := L) (xs := xs) (k := 2) hS1 (by omega) (d + 8)
    have b1 : rn L xs (d + 10) 224 0 [.ref 100, .int 2] [] σ1 = some (.inl none, σ2) := b1
    have w2 : frW [100, 101, 102, 117] σ σ2 := (w1.sub rfl).trans (b3.sub rfl)
    have q2 : ∀ q, q ≠ 8 → rd σ2 117 q = rd σ 117 q := fun q hq => by rw [b3.1 117 rfl, e6, wr_nei hq, wr_nei hq]
    subst e0
    have hm2 : RMc D rg cd R cs wd pgs ev X' i (n - 2) nr fn s st pl pg fl bk (a + 2) σ2 := h.stack (X' := X') (n' := n - 2) (by rw [hX]; exact b2) w2 q2 (by rw [b3.1 117 rfl, e6, wr_self]) (by rw [hX]; rfl) (by rw [hX]; rfl) (by rw [hX]; rfl) (by rw [hX]; rfl) (by rw [hX]; rfl) hRc
    have g0 : CGo L xs d σ σ2 := cgo_on h.1 h.2.2.2.2.1 (by omega) (κ := 23) (by rw [h.at', e2]; rfl) (by omega) (by rw [show t262 23 = 334 from rfl, e262_334 (d + 10), bI_ok p1, bV_ok b1, e262_386]) (by rw [q2 5 (by decide)]; exact h.2.2.2.1.2.2.2.2.1)
    obtain ⟨σ3, g1, g2, g3⟩ := goto σ2 (a + 2) X' (n - 2) hm2 (by omega) e4 e5
    exact ⟨σ3, g0.trans g1, g2, (w2.sub rfl).trans g3⟩
/-- regions of a part go -/
theorem leave_go {e b' f nr0 : Nat} (h : RMc D rg cd R cs wd pgs ev X i n nr fn s st pl pg fl bk e σ) (hL : LVc rg R f p e b') (hb : b' ≤ cs) (hnr : nr0 + (ownN rg f p).length = nr) (hU : pgU s nr = s.U) (h60 : (ownN rg f p).length ≤ 60) :
    ∃ σ' fl', CGo L xs d σ σ' ∧ RMc D rg cd R cs wd pgs ev X i n nr0 fn (lvS s nr0) st pl pg fl' bk b' σ' ∧ frW RCr σ σ' := by
  rcases hL with ⟨l1, l2⟩ | ⟨l1, l2, l3, l4⟩
  · rw [l1] at hnr
    have hnr : nr0 = nr := hnr
    subst hnr; subst l2
    rw [lvS_all hU]
    exact ⟨σ, fl, CGo.refl, h, frW.refl⟩
  · obtain ⟨k, hk⟩ : ∃ k, k = (ownN rg f p).length := ⟨_, rfl⟩
    rw [← hk] at hnr l3 h60
    have hm' := h.next
    have p1 := next_c (L := L) (xs := xs) hm'.1 hm'.2.2.2.2.1 (by omega) (d + 8)
    rw [hm'.at', l3] at p1
    obtain ⟨σ1, e1⟩ : ∃ σ1, σ1 = wr (wr σ 117 8 (i32 ((e + 1 : Nat) : Int))) 117 8 (i32 ((e + 1 + 1 : Nat) : Int)) := ⟨_, rfl⟩
    rw [← e1] at p1
    have w1 : frW [117] σ σ1 := by rw [e1]; exact (frW_wr rfl).trans (frW_wr rfl)
    obtain ⟨h1, ⟨hp, hS, hH, hok⟩, h3, h4, h5, h6⟩ := id h
    have hP1 : CPo s pg fl [] nr wd pgs σ1 := hp.fr (fun q _ => w1.1 103 rfl q) (fun j hj q => by rcases hj with e | e | e | e | e | e | e <;> rw [e] <;> exact w1.1 _ rfl q)
    obtain ⟨σ2, fl', b1, b2, b3, b4⟩ := leave_c (L := L) (xs := xs) (tot := k) (by omega) (d + 8) k 0 nr s fl σ1 (by omega) (by omega) hU hP1
    have b1 : rn L xs (d + 10) 244 0 [.ref 103, .int (i32 (k : Int)), jv] [] σ1 = some (.inl none, σ2) := by rw [e244_0]; exact b1
    rw [show nr - k = nr0 by omega] at b2
    have w2 : frW [103, 106, 117] σ σ2 := (w1.sub rfl).trans (b3.sub rfl)
    have q2 : ∀ q, q ≠ 8 → rd σ2 117 q = rd σ 117 q := fun q hq => by rw [b3.1 117 rfl, e1, wr_nei hq, wr_nei hq]
    refine ⟨σ2, fl', cgo_on h1 h5 (by omega) (κ := 2) (by rw [h.at', l2]; rfl) (by omega) ?_ ?_, ⟨h1.fr w2 rfl, ⟨b2, hS.fr (fun j hj q => by rcases hj with e | e | e <;> rw [e] <;> exact w2.1 _ rfl q), ⟨fun o ho => ?_, hH.2⟩, hok.lv (by omega)⟩, h3.fr (fun q hq => q2 q (by omega)) (fun j hj q => by rcases hj with e | e | e | e | e <;> rw [e] <;> exact w2.1 _ rfl q), ?_, by rw [b3.1 117 rfl, e1, wr_self, l4], by rw [← h6]; funext q; exact w2.1 95 rfl q⟩, w2.sub rfl⟩
    · rw [show t262 2 = 155 from rfl, e262_155 (d + 10), bI_ok p1, bV_ok b1, e262_386]
    · rw [q2 5 (by decide)]; exact h4.2.2.2.2.1
    · exact ⟨(hH.1 o ho).1, (hH.1 o ho).2.cong (fun j _ => ⟨w2.1 104 rfl _, w2.1 105 rfl _⟩) (fun _ _ _ => rfl)⟩
    · obtain ⟨y1, y2, y3, y4, y5, y6, y7⟩ := h4
      exact ⟨fun r hr => by rw [w2.1 108 rfl, w2.1 109 rfl]; exact y1 r (by omega), by rw [b4 20 (by decide) (by decide) (by decide), w1.1 103 rfl]; exact y2, y3, by rw [b4 21 (by decide) (by decide) (by decide), w1.1 103 rfl]; exact y4, by rw [q2 5 (by decide)]; exact y5, by rw [q2 6 (by decide)]; exact y6, by rw [q2 7 (by decide)]; exact y7⟩
end JSTEPS
