theorem i32_div {a b : Nat} (ha : a < 2147483648) (hb : b < 2147483648) : i32 (a : Int) / i32 (b : Int) = i32 ((a / b : Nat) : Int) := by
  have hq : a / b ≤ a := Nat.div_le_self _ _
  have e : ((a : Int).tdiv (b : Int)) = ((a / b : Nat) : Int) := by
    rw [Int.tdiv_eq_ediv_of_nonneg (by omega)]
    rfl
  apply Int32.toInt_inj.mp
  rw [Int32.toInt_div, i32_ti (by omega) (by omega), i32_ti (by omega) (by omega), e]
  generalize a / b = q at hq
  rw [i32_ti (by omega) (by omega)]
  exact Int.bmod_eq_of_le (by omega) (by omega)
theorem i32_mod {a b : Nat} (ha : a < 2147483648) (hb : b < 2147483648) : i32 (a : Int) - i32 (a : Int) / i32 (b : Int) * i32 (b : Int) = i32 ((a % b : Nat) : Int) := by
  rw [i32_div ha hb, i32_mul, i32_sub]
  congr 1
  have h := Nat.div_add_mod a b
  have h2 : ((a / b : Nat) : Int) * (b : Int) = ((b * (a / b) : Nat) : Int) := by
    rw [Nat.mul_comm]; push_cast; rfl
  rw [h2]
  generalize b * (a / b) = q at h
  generalize a % b = r at h
  omega
/-! ROOM FOR AN OBJECT: the model, the whole of it -/
section MMAKE2
variable {L : Nat} {xs : Nat → Int32} {τ τ' τ0 : tvS} {n nr i fil mt : Nat} {X : dyD} {oa : Nat → Nat} {st wd pgs ev N : Nat} {s : cSt} {fn : Nat → Nat × Nat} {A : alD}
def FPT : List Nat := [219, 220, 221, 222, 223, 224, 225, 226, 227, 228, 229, 230, 231, 232, 233, 234, 235]
def FPF : List Nat := [124, 125, 126, 127, 128, 130, 162, 164]
def FPG : List Nat := [125, 126, 127, 128, 130, 162]
theorem MPu.fr {S F : List Nat} {ser : Nat → Nat} {B : Nat} (h : MPu fn s st B ser nr τ) (w : frM S F τ τ') (h1 : inL (123 :: S) 216 = false ∧ inL (123 :: S) 217 = false ∧ inL (123 :: S) 218 = false ∧ inL (123 :: S) 219 = false ∧ inL (123 :: S) 220 = false ∧ inL (123 :: S) 221 = false) (h2 : inL F 144 = false ∧ inL F 122 = false ∧ inL F 123 = false ∧ inL F 125 = false ∧ inL F 126 = false ∧ inL F 127 = false ∧ inL F 128 = false ∧ inL F 129 = false ∧ inL F 130 = false) : MPu fn s st B ser nr τ' :=
  ⟨h.1.fr w h1.1 h1.2.1 h1.2.2.1 h1.2.2.2.1 h1.2.2.2.2.1 h1.2.2.2.2.2 h2.1, h.2.fr w h2.2⟩
/-- all that the model has while room is sought -/
def MSk (fn : Nat → Nat × Nat) (s : cSt) (X : dyD) (n nr st : Nat) (oa : Nat → Nat) (fil mt pgs wd ev : Nat) (τ : tvS) : Prop := MSt n X.sv τ ∧ MOb X n oa fil τ ∧ MPu fn s st X.B X.ser nr τ ∧ MMk mt X.no τ ∧ oSt s nr wd pgs X.no ∧ s.cp < 10000000 ∧ rd τ 123 119 = i32 (pgs : Int) ∧ rd τ 123 120 = i32 (wd : Int) ∧ rd τ 123 121 = i32 (ev : Int)
theorem coll_again (h : PUH X n nr wd N A) (hM : MSk fn s X n nr st oa fil mt pgs wd ev τ) (hmt : mt + 1 < 2147483648) (hpg : pgs ≤ 400) (d : Nat) :
    (∃ s' τ', coO A N pgs s = .inl s' ∧ rn L xs (d + 3) 403 0 [.ref 123] [] τ = some (.inl (some (.int 1)), τ') ∧ MSk fn s' X n nr st oa fil (mt + 1) pgs wd ev τ' ∧ frM FPT FPG τ τ') ∨
    (∃ c s' τ' mt', coO A N pgs s = .inr (c, s') ∧ mt' ≤ mt + 1 ∧ rn L xs (d + 3) 403 0 [.ref 123] [] τ = some (.inl (some (.int 0)), τ') ∧ MOv st c s' X.B mt' X.no FPT FPG τ τ') := by
  obtain ⟨m1, m2, m3, m4, m5, m6, m7, m8, m9⟩ := hM
  rcases own_coll_m (L := L) (xs := xs) h m1 m2 m3 m4 m5 hmt m6 hpg m7 m8 d with ⟨s', τ', a1, a2, a3, a4, a5, a6, a7⟩ | ⟨c, s', τ1, τ', mt', a1, a2, a3, a4, a5, a6, a7⟩
  · left
    exact ⟨s', τ', a1, a2, ⟨m1.fr a7 rfl rfl rfl, m2.fr a7 ⟨rfl, rfl, rfl, rfl, rfl, rfl, rfl, rfl, rfl⟩ ⟨rfl, rfl⟩, a3, a4, a5, a6, by rw [a7.2 119 rfl]; exact m7, by rw [a7.2 120 rfl]; exact m8, by rw [a7.2 121 rfl]; exact m9⟩, a7.sub rfl rfl⟩
  · right
    exact ⟨c, s', τ', mt', a1, a2, a3, τ1, a6.sub rfl rfl, a4, a5, a7⟩
theorem fit_again {r sz : Nat} (hM : MSk fn s X n nr st oa fil mt pgs wd ev τ) (hno : X.no < 30000) (hr : r < nr) (hsz : sz ≤ wd) (hwd : wd ≤ 128) (hpg : pgs ≤ 400) (d : Nat) :
    (∃ s' τ', fitP wd pgs s r sz = some s' ∧ rn L xs (d + 1) 407 0 [.ref 123, .int (i32 (r : Int)), .int (i32 (sz : Int))] [] τ = some (.inl (some (.int 1)), τ') ∧ MSk fn s' X n nr st oa fil mt pgs wd ev τ' ∧ (s'.R r).2.2 + sz ≤ wd ∧ frM FPT FPG τ τ') ∨ (fitP wd pgs s r sz = none ∧ rn L xs (d + 1) 407 0 [.ref 123, .int (i32 (r : Int)), .int (i32 (sz : Int))] [] τ = some (.inl (some (.int 0)), τ)) := by
  obtain ⟨m1, m2, m3, m4, m5, m6, m7, m8, m9⟩ := hM
  rcases fits_m (L := L) (xs := xs) m3 m5 (by omega) hr hsz hwd hpg m7 m8 d with ⟨s', τ', a1, a2, a3, a4, a5, a6⟩ | h
  · left
    have ecp : s'.cp = s.cp := by
      unfold fitP at a1
      by_cases q : (s.R r).2.1 ≠ 0 ∧ (s.R r).2.2 + sz ≤ wd
      · rw [if_pos q] at a1; injection a1 with a1; rw [a1]
      · rw [if_neg q] at a1
        by_cases u : 2 * s.U < pgs
        · rw [if_pos u] at a1; injection a1 with a1; rw [← a1]; rfl
        · rw [if_neg u] at a1; cases a1
    exact ⟨s', τ', a1, a2, ⟨m1.fr a6 rfl rfl rfl, m2.fr a6 ⟨rfl, rfl, rfl, rfl, rfl, rfl, rfl, rfl, rfl⟩ ⟨rfl, rfl⟩, a3, m4.fr a6 rfl rfl, a4, by rw [ecp]; exact m6, by rw [a6.2 119 rfl]; exact m7, by rw [a6.2 120 rfl]; exact m8, by rw [a6.2 121 rfl]; exact m9⟩, a5, a6.sub rfl rfl⟩
  · exact .inr h
/-- behind the room -/
theorem make_end {kind part r sz : Nat} (h : PUH X n nr wd N A) (hM : MSk fn s X n nr st oa fil mt pgs wd ev τ) (hr : r < nr) (hfit : (s.R r).2.2 + sz ≤ wd) (h200 : ∀ o, 1 ≤ o → o ≤ X.no → ((X.hp o).kd = 3 → rd τ 200 (X.hp o).pt = i32 ((X.hp o).kp.length : Int)) ∧ ((X.hp o).kd ≠ 3 → (X.hp o).kp = []) ∧ (X.hp o).kd ≤ 3) (hcap : tdS X n (X.no + 1) ≤ 51200) (hmt : mt + 1 < 2147483648) (d : Nat) :
    ∃ τ' oa' fil' mt', rn L xs (d + 3) 402 82 [.ref 123, .int (i32 (kind : Int)), .int (i32 (part : Int)), .int (i32 (r : Int)), .int (i32 (sz : Int))] [] τ = some (.inl (some (.int (i32 ((X.no + 1 : Nat) : Int)))), τ') ∧ mt' ≤ mt + 1 ∧ fil' ≤ 200000 ∧ MSt n X.sv τ' ∧ MPu fn (plP s r sz) st X.B X.ser nr τ' ∧ MNw kind part r sz fil' X.no (X.ser r) τ' ∧ MOp X n oa' fil' τ' ∧ MMk mt' (X.no + 1) τ' ∧ frM FPT FPF τ τ' := by
  obtain ⟨m1, m2, m3, m4, m5, m6, m7, m8, m9⟩ := hM
  obtain ⟨hH, hKd, hV, hLQ, hno, hN1, hN2, hA, hwd⟩ := h
  have hfil := m2.2.2.1
  have e164 := m2.2.1
  by_cases q : fil ≤ 200000
  · obtain ⟨τ', a1, a2, a3, a4, a5, a6⟩ := put_down (L := L) (xs := xs) (kind := kind) (part := part) m3 m2 m4 m5 hno hr hfit hwd (d + 2)
    refine ⟨τ', oa, fil, mt, ?_, Nat.le_succ _, q, m1.fr a6 rfl rfl rfl, a2, a3, a4, a5, a6.sub rfl rfl⟩
    rw [e402_82 (d + 2), e164, show (200000 : Int32) = i32 200000 from rfl, c2_le (by omega) (by omega) (by omega) (by omega), c_t (by omega)]
    exact a1
  · obtain ⟨τ1, b1, b2, b3, b4⟩ := tidy_m (L := L) (xs := xs) (τ0 := τ) hH m1 m2 m4 hKd hV (by omega) hmt h200 hcap jv jv jv jv jv d
    obtain ⟨τ', a1, a2, a3, a4, a5, a6⟩ := put_down (L := L) (xs := xs) (kind := kind) (part := part) (τ := τ1) (m3.fr b4 ⟨rfl, rfl, rfl, rfl, rfl, rfl⟩ ⟨rfl, rfl, rfl, rfl, rfl, rfl, rfl, rfl, rfl⟩) b2 b3 m5 hno hr hfit hwd (d + 2)
    refine ⟨τ', tdS X n, tdS X n (X.no + 1), mt + 1, ?_, Nat.le_refl _, by omega, (m1.fr b4 rfl rfl rfl).fr a6 rfl rfl rfl, a2, a3, a4, a5, (b4.sub rfl rfl).trans (a6.sub rfl rfl)⟩
    rw [e402_82 (d + 2), e164, show (200000 : Int32) = i32 200000 from rfl, c2_le (by omega) (by omega) (by omega) (by omega), c_f (by omega), bV_ok b1]
    exact a1
theorem make_fit {kind part r sz : Nat} (h : PUH X n nr wd N A) (hM : MSk fn s X n nr st oa fil mt pgs wd ev τ) (hr : r < nr) (hsz : sz ≤ wd) (hpg : pgs ≤ 400) (h200 : ∀ o, 1 ≤ o → o ≤ X.no → ((X.hp o).kd = 3 → rd τ 200 (X.hp o).pt = i32 ((X.hp o).kp.length : Int)) ∧ ((X.hp o).kd ≠ 3 → (X.hp o).kp = []) ∧ (X.hp o).kd ≤ 3) (hcap : tdS X n (X.no + 1) ≤ 51200) (hmt : mt + 2 < 2147483648) (d : Nat) :
    (∃ s' τ' oa' fil' mt', fiP A N wd pgs s r sz = .inl s' ∧ rn L xs (d + 4) 402 46 [.ref 123, .int (i32 (kind : Int)), .int (i32 (part : Int)), .int (i32 (r : Int)), .int (i32 (sz : Int))] [] τ = some (.inl (some (.int (i32 ((X.no + 1 : Nat) : Int)))), τ') ∧ mt' ≤ mt + 2 ∧ fil' ≤ 200000 ∧ MSt n X.sv τ' ∧ MPu fn (plP s' r sz) st X.B X.ser nr τ' ∧ oSt s' nr wd pgs X.no ∧ s'.cp < 10000000 ∧ (s'.R r).2.2 + sz ≤ wd ∧ MNw kind part r sz fil' X.no (X.ser r) τ' ∧ MOp X n oa' fil' τ' ∧ MMk mt' (X.no + 1) τ' ∧ frM FPT FPF τ τ') ∨
    (∃ c s' τ' mt', fiP A N wd pgs s r sz = .inr (c, s') ∧ rn L xs (d + 4) 402 46 [.ref 123, .int (i32 (kind : Int)), .int (i32 (part : Int)), .int (i32 (r : Int)), .int (i32 (sz : Int))] [] τ = some (.inl (some (.int 0)), τ') ∧ mt' ≤ mt + 2 ∧ MOv st c s' X.B mt' X.no FPT FPG τ τ') := by
  have hwd := h.2.2.2.2.2.2.2.2
  have hno := h.2.2.2.2.1
  rcases fit_again (L := L) (xs := xs) hM hno hr hsz hwd hpg (d + 2) with ⟨s1, τ1, a1, a2, a3, a4, a5⟩ | ⟨a1, a2⟩
  · left
    obtain ⟨τ', oa', fil', mt', b1, b2, b3, b4, b5, b6, b7, b8, b9⟩ := make_end (L := L) (xs := xs) (kind := kind) (part := part) h a3 hr a4 (fun o o1 o2 => by rw [a5.rd rfl]; exact h200 o o1 o2) hcap (by omega) (d + 1)
    refine ⟨s1, τ', oa', fil', mt', by unfold fiP; rw [a1], ?_, by omega, b3, b4, b5, a3.2.2.2.2.1, a3.2.2.2.2.2.1, a4, b6, b7, b8, (a5.sub rfl rfl).trans b9⟩
    rw [e402_46 (d + 3), bI_ok a2, show pv_c1 .ne (1 : Int32) = true from rfl, cond_true]
    exact b1
  · rcases coll_again (L := L) (xs := xs) h hM (by omega) hpg d with ⟨s1, τ1, c1, c2, c3, c4⟩ | ⟨c, s1, τ1, mt', c1, c2, c3, c4⟩
    · rcases fit_again (L := L) (xs := xs) c3 hno hr hsz hwd hpg (d + 2) with ⟨s2, τ2, e1, e2, e3, e4, e5⟩ | ⟨e1, e2⟩
      · left
        obtain ⟨τ', oa', fil', mt', b1, b2, b3, b4, b5, b6, b7, b8, b9⟩ := make_end (L := L) (xs := xs) (kind := kind) (part := part) h e3 hr e4 (fun o o1 o2 => by rw [e5.rd rfl, c4.rd rfl]; exact h200 o o1 o2) hcap (by omega) (d + 1)
        refine ⟨s2, τ', oa', fil', mt', by unfold fiP; rw [a1]; dsimp only; rw [c1]; dsimp only; rw [e1], ?_, by omega, b3, b4, b5, e3.2.2.2.2.1, e3.2.2.2.2.2.1, e4, b6, b7, b8, ((c4.trans e5).sub rfl rfl).trans b9⟩
        rw [e402_46 (d + 3), bI_ok a2, show pv_c1 .ne (0 : Int32) = false from rfl, cond_false, bI_ok c2, show pv_c1 .ne (1 : Int32) = true from rfl, cond_true, e402_65 (d + 3), bI_ok e2, show pv_c1 .ne (1 : Int32) = true from rfl, cond_true]
        exact b1
      · right
        obtain ⟨t1, f1, f2⟩ := end_m (L := L) (xs := xs) (τ := τ1) 5 (d + 2)
        have f1 : rn L xs (d + 3) 395 0 [.ref 123, .int 5] [] τ1 = some (.inl none, t1) := f1
        refine ⟨5, s1, t1, mt + 1, by unfold fiP; rw [a1]; dsimp only; rw [c1]; dsimp only; rw [e1], ?_, by omega, τ1, c4, c3.2.2.1.2, c3.2.2.2.1, f2⟩
        rw [e402_46 (d + 3), bI_ok a2, show pv_c1 .ne (0 : Int32) = false from rfl, cond_false, bI_ok c2, show pv_c1 .ne (1 : Int32) = true from rfl, cond_true, e402_65 (d + 3), bI_ok e2, show pv_c1 .ne (0 : Int32) = false from rfl, cond_false, bV_ok f1]
    · right
      refine ⟨c, s1, τ1, mt', by unfold fiP; rw [a1]; dsimp only; rw [c1], ?_, by omega, c4⟩
      rw [e402_46 (d + 3), bI_ok a2, show pv_c1 .ne (0 : Int32) = false from rfl, cond_false, bI_ok c3, show pv_c1 .ne (0 : Int32) = false from rfl, cond_false]
/-- an object is made, or the run is over -/
theorem make_m {kind part r sz : Nat} (h : PUH X n nr wd N A) (hM : MSk fn s X n nr st oa fil mt pgs wd ev τ) (hr : r < nr) (hsz : sz ≤ 128) (hev : ev ≤ 10000) (hpg : pgs ≤ 400) (h200 : ∀ o, 1 ≤ o → o ≤ X.no → ((X.hp o).kd = 3 → rd τ 200 (X.hp o).pt = i32 ((X.hp o).kp.length : Int)) ∧ ((X.hp o).kd ≠ 3 → (X.hp o).kp = []) ∧ (X.hp o).kd ≤ 3) (hcap : tdS X n (X.no + 1) ≤ 51200) (hmt : mt + 3 < 2147483648) (d : Nat) :
    (∃ s' τ' oa' fil' mt', putP A N wd pgs ev X.no s r sz = .inl (plP s' r sz) ∧ rn L xs (d + 4) 402 0 [.ref 123, .int (i32 (kind : Int)), .int (i32 (part : Int)), .int (i32 (r : Int)), .int (i32 (sz : Int))] [] τ = some (.inl (some (.int (i32 ((X.no + 1 : Nat) : Int)))), τ') ∧ mt' ≤ mt + 3 ∧ fil' ≤ 200000 ∧ MSt n X.sv τ' ∧ MPu fn (plP s' r sz) st X.B X.ser nr τ' ∧ oSt s' nr wd pgs X.no ∧ s'.cp < 10000000 ∧ (s'.R r).2.2 + sz ≤ wd ∧ MNw kind part r sz fil' X.no (X.ser r) τ' ∧ MOp X n oa' fil' τ' ∧ MMk mt' (X.no + 1) τ' ∧ frM FPT FPF τ τ') ∨
    (∃ c s' τ' mt', putP A N wd pgs ev X.no s r sz = .inr (c, s') ∧ rn L xs (d + 4) 402 0 [.ref 123, .int (i32 (kind : Int)), .int (i32 (part : Int)), .int (i32 (r : Int)), .int (i32 (sz : Int))] [] τ = some (.inl (some (.int 0)), τ') ∧ mt' ≤ mt + 3 ∧ MOv st c s' X.B mt' X.no FPT FPG τ τ') := by
  have hwd := h.2.2.2.2.2.2.2.2
  have hno := h.2.2.2.2.1
  obtain ⟨m1, m2, m3, m4, m5, m6, m7, m8, m9⟩ := id hM
  by_cases q : wd < sz
  · right
    obtain ⟨t1, f1, f2⟩ := end_m (L := L) (xs := xs) (τ := τ) 5 (d + 2)
    have f1 : rn L xs (d + 3) 395 0 [.ref 123, .int 5] [] τ = some (.inl none, t1) := f1
    refine ⟨5, s, t1, mt, by unfold putP; rw [if_pos q], ?_, by omega, τ, frM.refl, m3.2, m4, f2⟩
    rw [e402_0 (d + 3), m8, c2_le (by omega) (by omega) (by omega) (by omega), c_f (by omega), bV_ok f1]
  · have head : rn L xs (d + 4) 402 0 [.ref 123, .int (i32 (kind : Int)), .int (i32 (part : Int)), .int (i32 (r : Int)), .int (i32 (sz : Int))] [] τ = if 0 < ev ∧ (X.no + 1) % ev = 0 then (bI (rn L xs (d + 3) 403 0 [.ref 123] [] τ) (fun a2 s1 => cond (pv_c1 .ne a2) (rn L xs (d + 4) 402 46 [.ref 123, .int (i32 (kind : Int)), .int (i32 (part : Int)), .int (i32 (r : Int)), .int (i32 (sz : Int))] [] s1) (some (.inl (some (.int 0)), s1))) X0) else rn L xs (d + 4) 402 46 [.ref 123, .int (i32 (kind : Int)), .int (i32 (part : Int)), .int (i32 (r : Int)), .int (i32 (sz : Int))] [] τ := by
      rw [e402_0 (d + 3), m8, c2_le (by omega) (by omega) (by omega) (by omega), c_t (by omega), e402_16 (d + 3), m9, c1_le (by omega) (by omega)]
      by_cases z : 0 < ev
      · have nz : (!(decide (i32 (ev : Int) = 0))) = true := by
          rw [show (0 : Int32) = i32 ((0 : Nat) : Int) from rfl]
          have : ¬ i32 (ev : Int) = i32 ((0 : Nat) : Int) := fun h => by
            have := (i32_inj (by omega) (by omega) (by omega) (by omega)).mp h
            omega
          rw [decide_eq_false this]; rfl
        have hlt : (X.no + 1) % ev < ev := Nat.mod_lt _ z
        rw [c_f (by omega), nz, cond_true, m2.1, i32_up, i32_mod (by omega) (by omega)]
        generalize (X.no + 1) % ev = y at hlt
        rw [c1_ne (by omega) (by omega)]
        by_cases u : y = 0
        · rw [c_f (by omega), if_pos ⟨z, u⟩]
        · rw [c_t (by omega), if_neg (fun h => u h.2)]
      · rw [c_t (by omega), if_neg (fun h => z h.1)]
    rw [head]
    by_cases v : 0 < ev ∧ (X.no + 1) % ev = 0
    · rw [if_pos v]
      rcases coll_again (L := L) (xs := xs) h hM (by omega) hpg d with ⟨s1, τ1, c1, c2, c3, c4⟩ | ⟨c, s1, τ1, mt', c1, c2, c3, c4⟩
      · have evp : evP A N pgs ev X.no s = .inl s1 := by unfold evP; rw [if_pos v]; exact c1
        rw [bI_ok c2, show pv_c1 .ne (1 : Int32) = true from rfl, cond_true]
        rcases make_fit (L := L) (xs := xs) (kind := kind) (part := part) (r := r) (sz := sz) h c3 hr (by omega) hpg (fun o o1 o2 => by rw [c4.rd rfl]; exact h200 o o1 o2) hcap (by omega) d with ⟨s2, τ2, oa', fil', mt', e1, e2, e3, e4, e5, e6, e7, e8, e9, e10, e11, e12, e13⟩ | ⟨c', s2, τ2, mt', e1, e2, e3, τ3, e4, e5, e6, e7⟩
        · left
          exact ⟨s2, τ2, oa', fil', mt', by unfold putP; rw [if_neg q, evp]; dsimp only; rw [e1], e2, by omega, e4, e5, e6, e7, e8, e9, e10, e11, e12, (c4.sub rfl rfl).trans e13⟩
        · right
          exact ⟨c', s2, τ2, mt', by unfold putP; rw [if_neg q, evp]; dsimp only; rw [e1], e2, by omega, τ3, c4.trans e4, e5, e6, e7⟩
      · right
        have evp : evP A N pgs ev X.no s = .inr (c, s1) := by unfold evP; rw [if_pos v]; exact c1
        refine ⟨c, s1, τ1, mt', by unfold putP; rw [if_neg q, evp], ?_, by omega, c4⟩
        rw [bI_ok c3, show pv_c1 .ne (0 : Int32) = false from rfl, cond_false]
    · rw [if_neg v]
      have evp : evP A N pgs ev X.no s = .inl s := by unfold evP; rw [if_neg v]
      rcases make_fit (L := L) (xs := xs) (kind := kind) (part := part) (r := r) (sz := sz) h hM hr (by omega) hpg h200 hcap (by omega) d with ⟨s2, τ2, oa', fil', mt', e1, e2, e3, e4, e5, e6, e7, e8, e9, e10, e11, e12, e13⟩ | ⟨c', s2, τ2, mt', e1, e2, e3, τ3, e4, e5, e6, e7⟩
      · left
        exact ⟨s2, τ2, oa', fil', mt', by unfold putP; rw [if_neg q, evp]; dsimp only; rw [e1], e2, by omega, e4, e5, e6, e7, e8, e9, e10, e11, e12, e13⟩
      · right
        exact ⟨c', s2, τ2, mt', by unfold putP; rw [if_neg q, evp]; dsimp only; rw [e1], e2, by omega, τ3, e4, e5, e6, e7⟩
end MMAKE2
