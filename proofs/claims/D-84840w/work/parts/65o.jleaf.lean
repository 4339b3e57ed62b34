/-! RUNS, BOTH: numbers, nil, variables -/
section JLEAF
variable {L : Nat} {xs : Nat → Int32} {σ σ' σ1 τ τ' τ1 : tvS} {D : pgD} {m : Nat} {rg : rgD} {cd : cdD} {T : tsD} {vd W : Nat → Nat} {M wd pgs ev N : Nat} {G : tG} {rr : Nat → Nat} {R : Nat → Int32} {cs : Nat} {X X' X0 : dyD} {K K' : List (Nat × Nat × Nat)} {i : Nat} {E E' E0 : Nat → trE} {n n' : Nat} {ty ty' : Nat → trE} {nr nr' nr0 : Nat} {av av' av0 : Nat → Prop} {Lv dd dd' st w p b a κ q c j k e b' dc f : Nat} {fn fn' : Nat → Nat × Nat} {s s' : cSt} {oa : Nat → Nat} {fil mt : Nat} {pl : Nat → Nat} {pg : Nat → List Nat} {fl : List Nat} {bk ff : Nat → Nat} {d M0 B no : Nat} {x : obD} {t : trE} {sv : Nat → vaL}
/-- a value more, or the run is over -/
theorem vpush_any {v : vaL} (hP : CPo s pg fl [] nr wd pgs σ) (hM : CMc fn B no st ev nr σ) (hp1 : 1 ≤ pgs) (hS : CSt n sv pl σ) (hv : v.1 ≤ 2) (d : Nat) :
    (n < 4000 ∧ ∃ σ', rn L xs (d + 3) 263 0 [.ref 117, .int (cwd pl v), .int (i32 (v.1 : Int))] [] σ = some (.inl none, σ') ∧ CSt (n + 1) (uq sv n v) pl σ' ∧ frW [100, 101, 102] σ σ') ∨
    (n = 4000 ∧ ∃ σ', rn L xs (d + 3) 263 0 [.ref 117, .int (cwd pl v), .int (i32 (v.1 : Int))] [] σ = some (.inl none, σ') ∧ CVR st 4 s B no pgs wd ev σ' ∧ frW [100, 103, 106, 117] σ σ') := by
  have hn := hS.2.1
  by_cases c : n = 4000
  · right
    exact ⟨c, vpush_full hS c _ _ d (cend_c (L := L) (xs := xs) (c := 4) hP hM hp1 d)⟩
  · left
    exact ⟨by omega, vpush_c hS (by omega) hv (d + 1)⟩
/-- the value of a variable in scope -/
theorem SCQ.look {v : Nat} (hE : ENV D m rg cd T vd W M wd pgs ev) (hB : BGI D rg cd T vd W M wd X p K i E n ty nr av st) (hv : v ∈ D.sl p) (hcg : cd.vo v ≠ cd.fn D p → v ∈ cd.cg (cd.fn D p).toNat) : ∃ val : vaL, LKv X i n (vd v) val ∧ (VTy D rg cd T X.hp X.no X.B val (E (T.vC v)) ∧ LVv X.hp X.no X.ser nr val ∧ val.1 ≤ 2) ∧ ((cd.vo v = cd.fn D p ∧ X.bs i + cd.sl v < n ∧ val = X.sv (X.bs i + cd.sl v)) ∨ (cd.vo v ≠ cd.fn D p ∧ ∃ o : Nat, X.bs i < n ∧ X.sv (X.bs i) = (2, i32 (o : Int)) ∧ 1 ≤ o ∧ o ≤ X.no ∧ (X.hp o).co[cd.ci (cd.fn D p) v]? = some val)) := by
  obtain ⟨⟨h1, h2, h3⟩, hval, hH, _⟩ := hB
  obtain ⟨⟨f1, f2, f3, f4, f5⟩, pc, ps, _⟩ := h1
  obtain ⟨b1, b2⟩ := hE.1.1.pb f1 f3
  obtain ⟨s1, s2, s3⟩ := ps v hv
  by_cases c : cd.vo v = cd.fn D p
  · obtain ⟨g1, g2, g3⟩ := s2 c
    have hk : X.bs i + cd.sl v < n := by omega
    have := hval _ hk
    rw [g3] at this
    exact ⟨X.sv (X.bs i + cd.sl v), .inl ⟨_, g1, hk, rfl⟩, this, .inl ⟨c, hk, rfl⟩⟩
  · obtain ⟨g1, g2, o, w, g3, g4, g5, g6, g7, g8⟩ := s3 c (hcg c)
    have h0 := (hE.2.2.2.2.2 p v b1 hv).2 c
    rw [f4] at h0
    have hm := List.mem_of_getElem? g7
    have hLV := (hval (X.bs i) g2).2.1
    rw [g3] at hLV
    exact ⟨w, .inr ⟨_, o, g1, h0, g2, g3, g4, g5, g7⟩, ⟨g8, hLV.part hH.1 g4 g5 hm, (hH.2.1 o g4 g5).1.2.2.2.2.1 w hm⟩, .inr ⟨c, o, g2, g3, g4, g5, g7⟩⟩
/-- a word of the component that brings a value -/
theorem leaf_c {v : vaL} {a' g : Nat} (hC : RMc D rg cd R cs wd pgs ev X i n nr fn s st pl pg fl bk a σ) (hp1 : 1 ≤ pgs) (hv2 : v.1 ≤ 2) (hκ : 1 ≤ κ ∧ κ < 28) (hRa : R a = i32 (κ : Int)) (hC1 : RMc D rg cd R cs wd pgs ev X i n nr fn s st pl pg fl bk a' σ1) (w1 : frW [117] σ σ1) (q1 : ∀ z, z ≠ 8 → rd σ1 117 z = rd σ 117 z) (hop : ∀ σ2, rn L xs (g + 3) 263 0 [.ref 117, .int (cwd pl v), .int (i32 (v.1 : Int))] [] σ1 = some (.inl none, σ2) → rn L xs (d + 11) 262 (t262 κ) [.ref 117, .int (i32 (κ : Int)), jv, jv] [] (wr σ 117 8 (i32 ((a + 1 : Nat) : Int))) = some (.inl none, σ2)) (ha : a < cs) :
    (n < 4000 ∧ ∃ σ', CGo L xs d σ σ' ∧ CSt (n + 1) (uq X.sv n v) pl σ' ∧ frW [100, 101, 102, 117] σ σ' ∧ (∀ z, z ≠ 8 → rd σ' 117 z = rd σ 117 z) ∧ rd σ' 117 8 = i32 (a' : Int)) ∨ (n = 4000 ∧ ∃ σ', CEn L xs d σ σ' ∧ CVR st 4 s X.B X.no pgs wd ev σ' ∧ frW RCr σ σ' ∧ RSc D rg cd cs σ' ∧ rd σ' 95 = R) := by
  have hRa' : rd σ 95 a = i32 (κ : Int) := by rw [hC.at', hRa]
  rcases vpush_any (L := L) (xs := xs) (v := v) hC1.2.1.1 hC1.2.2.2.1 hp1 hC1.2.1.2.1 hv2 g with ⟨c, σ2, y1, y2, y3⟩ | ⟨c, σ2, y1, y2, y3⟩
  · left
    have q2 : ∀ z, z ≠ 8 → rd σ2 117 z = rd σ 117 z := fun z hz => by rw [y3.1 117 rfl, q1 z hz]
    exact ⟨c, σ2, cgo_on hC.1 hC.2.2.2.2.1 ha hRa' hκ (hop σ2 y1) (by rw [q2 5 (by decide)]; exact hC.2.2.2.1.2.2.2.2.1), y2, (w1.sub rfl).trans (y3.sub rfl), q2, by rw [y3.1 117 rfl]; exact hC1.2.2.2.2.1⟩
  · right
    exact ⟨c, σ2, cgo_end hC.1 hC.2.2.2.2.1 ha hRa' hκ (hop σ2 y1) y2.2.1.1 (by omega), y2, (w1.sub rfl).trans (y3.sub rfl), hC1.1.fr y3 rfl, by rw [← hC1.2.2.2.2.2]; funext z; exact y3.1 95 rfl z⟩
/-- its value is there at once -/
theorem J_leaf (hE : ENV D m rg cd T vd W M wd pgs ev) (hB : BGI D rg cd T vd W M wd X p K i E n ty nr av st) (hM : RMm D rg cd vd N G rr wd pgs ev X K i n nr fn s st oa fil mt τ) (hC : RMc D rg cd R cs wd pgs ev X i n nr fn s st pl pg fl bk a σ) (hI : INN D rg cd R (X.ff i) (CA D rg cd R (X.ff i) dc) p a e) (hL : LVc rg R (X.ff i) p e b') (hA : AT D rg cd R cs X.ff bk K i b' (n + 1)) (hkl : K.length + 20 < 130000) (hmt : mt ≤ M0 + 3 * X.no ∧ s.cp ≤ M0 + 80001) (hκ : D.K p ≤ 2) :
    JBE L xs d D rg cd T vd W M N G rr R cs wd pgs ev M0 st p (wtK K) σ τ := by
  intro v2 v3
  obtain ⟨⟨f1, f2, f3, f4, f5⟩, pc, ps, _⟩ := id hB.1.1
  obtain ⟨b1, b2⟩ := hE.1.1.pb f1 f3
  have hS := (hE.1.2.2.2.2.1 _ p f1 f2 f3).1
  have hV := (hE.1.2.2.2.2.1 _ p f1 f2 f3).2
  have hno : X.no ≤ 30000 := by have := hB.2.2.2.2.1; omega
  have hp1 : 1 ≤ pgs := by have := hE.2.2.1.2.2.1; omega
  have hlt := AT.lt _ _ _ _ hA
  have hle := hL.le
  have hC' := hC.next
  have w0 : frW [117] σ (wr σ 117 8 (i32 ((a + 1 : Nat) : Int))) := frW_wr rfl
  have q0 : ∀ z, z ≠ 8 → rd (wr σ 117 8 (i32 ((a + 1 : Nat) : Int))) 117 z = rd σ 117 z := fun z hz => wr_nei hz
  -- the value
  have hval : ∃ v : vaL, (VTy D rg cd T X.hp X.no X.B v (E (T.oC p)) ∧ LVv X.hp X.no X.ser nr v ∧ v.1 ≤ 2) ∧ (∀ o, ROb X.hp X.no v o → RCO X n o) ∧
      ((n < 4000 ∧ ∃ σ', CGo L xs d σ σ' ∧ CSt (n + 1) (uq X.sv n v) pl σ' ∧ frW [100, 101, 102, 117] σ σ' ∧ (∀ z, z ≠ 8 → rd σ' 117 z = rd σ 117 z) ∧ rd σ' 117 8 = i32 (e : Int)) ∨ (n = 4000 ∧ ∃ σ', CEn L xs d σ σ' ∧ CVR st 4 s X.B X.no pgs wd ev σ' ∧ frW RCr σ σ' ∧ RSc D rg cd cs σ' ∧ rd σ' 95 = R)) ∧
      ∀ (τ1 : tvS) (K1 : List (Nat × Nat × Nat)), RMm D rg cd vd N G rr wd pgs ev X K1 i n nr fn s st oa fil mt τ1 → ∀ v2 v3 : Value, (n < 4000 ∧ ∃ τ', rn L xs (d + 6) 418 (t418 (mKd (D.K p))) [.ref 123, .int (i32 (p : Int)), v2, v3] [] τ1 = some (.inl none, τ') ∧ MSt (n + 1) (uq X.sv n v) τ' ∧ frM [207, 208] [132, 167, 168] τ1 τ') ∨ (n = 4000 ∧ ∃ τ2 τ', rn L xs (d + 6) 418 (t418 (mKd (D.K p))) [.ref 123, .int (i32 (p : Int)), v2, v3] [] τ1 = some (.inl none, τ') ∧ frM [] [167, 168] τ1 τ2 ∧ MEn 4 τ2 τ') := by
    have h12 : D.K p = 0 ∨ D.K p = 1 ∨ D.K p = 2 := by omega
    have nro : ∀ (v : vaL), v.1 ≠ 2 → ∀ o, ROb X.hp X.no v o → RCO X n o := fun v hv o ⟨j, h⟩ => by
      cases j with
      | zero => exact absurd (congrArg Prod.fst h.1) hv
      | succ j => obtain ⟨o'', w, h3, _⟩ := h; exact absurd (congrArg Prod.fst h3) hv
    -- the model puts a value
    have mput : ∀ (v : vaL) (τ1 : tvS) (K1 : List (Nat × Nat × Nat)), RMm D rg cd vd N G rr wd pgs ev X K1 i n nr fn s st oa fil mt τ1 → (∀ (y : Int32) (τ' : tvS), rn L xs (d + 5) 413 0 [.ref 123, .int (i32 (v.1 : Int)), .int v.2] [] τ1 = some (.inl (some (.int y)), τ') → ∀ v2 v3 : Value, rn L xs (d + 6) 418 (t418 (mKd (D.K p))) [.ref 123, .int (i32 (p : Int)), v2, v3] [] τ1 = some (.inl none, τ')) → ∀ v2 v3 : Value, (n < 4000 ∧ ∃ τ', rn L xs (d + 6) 418 (t418 (mKd (D.K p))) [.ref 123, .int (i32 (p : Int)), v2, v3] [] τ1 = some (.inl none, τ') ∧ MSt (n + 1) (uq X.sv n v) τ' ∧ frM [207, 208] [132, 167, 168] τ1 τ') ∨ (n = 4000 ∧ ∃ τ2 τ', rn L xs (d + 6) 418 (t418 (mKd (D.K p))) [.ref 123, .int (i32 (p : Int)), v2, v3] [] τ1 = some (.inl none, τ') ∧ frM [] [167, 168] τ1 τ2 ∧ MEn 4 τ2 τ') := fun v τ1 K1 hM1 hop v2 v3 => by
      have hS1 := hM1.2.2.2.1.1
      have hn := hS1.2.1
      by_cases c : n = 4000
      · obtain ⟨τ', z1, z2⟩ := value_full (L := L) (xs := xs) hS1 c (i32 (v.1 : Int)) v.2 (d + 3)
        exact .inr ⟨c, τ1, τ', hop _ τ' z1 v2 v3, frM.refl, z2⟩
      · obtain ⟨τ', z1, z2, z3⟩ := value_m (L := L) (xs := xs) hS1 (by omega) v (d + 4)
        exact .inl ⟨by omega, τ', hop _ τ' z1 v2 v3, z2, z3.sub rfl rfl⟩
    rcases h12 with k0 | k0 | k0
    · -- a number
      obtain ⟨I1, I2, I3⟩ := hI.1 k0
      have ki := hS.1 k0
      refine ⟨(0, cd.vw p), ⟨VTy.num (by rw [pc.1.k (by omega) (by omega), ki]), LVv.num (by show (0 : Nat) ≠ 2; omega), Nat.zero_le _⟩, nro _ (by show (0 : Nat) ≠ 2; omega), ?_, fun τ1 K1 hM1 => mput _ τ1 K1 hM1 (fun y τ' h v2 v3 => ?_)⟩
      · have p1 := next_c (L := L) (xs := xs) hC'.1 hC'.2.2.2.2.1 (by omega) (d + 8)
        rw [hC'.at', I2] at p1
        have hC2 := hC'.next
        rw [I3]
        refine leaf_c (v := (0, cd.vw p)) (κ := 3) (g := d + 7) hC hp1 (Nat.zero_le _) (by omega) I1 hC2 (w0.trans (frW_wr rfl)) (fun z hz => by rw [wr_nei hz, q0 z hz]) (fun σ2 h => ?_) (by omega)
        have h : rn L xs (d + 10) 263 0 [.ref 117, .int (cd.vw p), .int 0] [] (wr (wr σ 117 8 (i32 ((a + 1 : Nat) : Int))) 117 8 (i32 ((a + 1 + 1 : Nat) : Int))) = some (.inl none, σ2) := h
        rw [show t262 3 = 169 from rfl, e262_169 (d + 10), bI_ok p1, bV_ok h, e262_386]
      · have e157 := (hM1.1.2.2.1 p b1).2.2.2.2.2.2.2.1 k0
        have h : rn L xs (d + 5) 413 0 [.ref 123, .int 0, .int (cd.vw p)] [] τ1 = some (.inl (some (.int y)), τ') := h
        rw [k0, show t418 (mKd 0) = 136 from rfl, e418_136, c_in (by omega) (by omega) (by omega), i32_ixn (by omega), e157, bI_ok h, e418_365]
    · -- nil
      obtain ⟨I1, I3⟩ := hI.2.1 k0
      have ki := hS.2.1 k0
      refine ⟨(1, 0), ⟨VTy.nil (by rw [pc.1.k (by omega) (by omega), ki]), LVv.num (by show (1 : Nat) ≠ 2; omega), by show (1 : Nat) ≤ 2; omega⟩, nro _ (by show (1 : Nat) ≠ 2; omega), ?_, fun τ1 K1 hM1 => mput _ τ1 K1 hM1 (fun y τ' h v2 v3 => ?_)⟩
      · rw [I3]
        refine leaf_c (v := (1, 0)) (κ := 4) (g := d + 7) hC hp1 (by show (1 : Nat) ≤ 2; omega) (by omega) I1 hC' w0 q0 (fun σ2 h => ?_) (by omega)
        have h : rn L xs (d + 10) 263 0 [.ref 117, .int 0, .int 1] [] (wr σ 117 8 (i32 ((a + 1 : Nat) : Int))) = some (.inl none, σ2) := h
        rw [show t262 4 = 181 from rfl, e262_181 (d + 10), bV_ok h, e262_386]
      · have h : rn L xs (d + 5) 413 0 [.ref 123, .int 1, .int 0] [] τ1 = some (.inl (some (.int y)), τ') := h
        rw [k0, show t418 (mKd 1) = 151 from rfl, e418_151, bI_ok h, e418_365]
    · -- a variable
      obtain ⟨I3, I4⟩ := hI.2.2.1 k0
      obtain ⟨hv1, hv2⟩ := hV.2.2.2.2 k0
      obtain ⟨val, hLK, hT, hcase⟩ := SCQ.look hE hB hv1 hv2
      rw [← hS.2.2.1 k0] at hT
      have hvb := hE.2.2.2.2.2 p (D.vl p) b1 hv1
      have hvb2 := hE.1.1.1.2.2.2.1
      refine ⟨val, hT, ?_, ?_, fun τ1 K1 hM1 v2 v3 => ?_⟩
      · intro o ho
        rcases hcase with ⟨_, q2, q3⟩ | ⟨_, o', q2, q3, q4, q5, q6⟩
        · rw [q3] at ho; exact ⟨_, q2, ho⟩
        · exact ⟨_, q2, by rw [q3]; exact ROb.up q4 q5 (List.mem_of_getElem? q6) ho⟩
      · have p1 := next_c (L := L) (xs := xs) hC'.1 hC'.2.2.2.2.1 (by omega) (d + 8)
        have hC2 := hC'.next
        obtain ⟨σ1, eσ⟩ : ∃ σ1, σ1 = wr (wr σ 117 8 (i32 ((a + 1 : Nat) : Int))) 117 8 (i32 ((a + 1 + 1 : Nat) : Int)) := ⟨_, rfl⟩
        rw [← eσ] at p1 hC2
        have w1 : frW [117] σ σ1 := by rw [eσ]; exact w0.trans (frW_wr rfl)
        have q1 : ∀ z, z ≠ 8 → rd σ1 117 z = rd σ 117 z := fun z hz => by rw [eσ, wr_nei hz, q0 z hz]
        rw [I3]
        have h9 : rd (wr σ 117 8 (i32 ((a + 1 : Nat) : Int))) 117 9 = i32 (X.bs i : Int) := hC'.2.2.1.1.1
        have hn4 := hC'.2.1.2.1.2.1
        rcases hcase with ⟨c1, q2, q3⟩ | ⟨c1, o', q2, q3, q4, q5, q6⟩
        · rcases I4 with ⟨_, I1, I2⟩ | ⟨c2, _⟩
          · rw [hC'.at', I2] at p1
            refine leaf_c (v := val) (κ := 5) (g := d + 6) hC hp1 hT.2.2 (by omega) I1 hC2 w1 q1 (fun σ2 h => ?_) (by omega)
            have r1 := val_c (L := L) (xs := xs) (k := X.bs i + cd.sl (D.vl p)) hC2.2.1.2.1 q2 (d + 8)
            have r2 := sort_c (L := L) (xs := xs) (k := X.bs i + cd.sl (D.vl p)) hC2.2.1.2.1 q2 (d + 8)
            rw [← q3] at r1 r2
            have ei : i32 (X.bs i : Int) + i32 (cd.sl (D.vl p) : Int) = i32 ((X.bs i + cd.sl (D.vl p) : Nat) : Int) := by rw [i32_add]; congr 1
            have r3 : rn L xs (d + 10) 264 0 [.ref 117, .int (i32 ((X.bs i + cd.sl (D.vl p) : Nat) : Int))] [] σ1 = some (.inl none, σ2) := by
              rw [e264_0 (d + 9), bI_ok r1, bI_ok r2, bV_ok h]
            rw [show t262 5 = 190 from rfl, e262_190 (d + 10), bI_ok p1, h9, ei, bV_ok r3, e262_386]
          · exact absurd c1 c2
        · rcases I4 with ⟨c2, _⟩ | ⟨_, I1, I2⟩
          · exact absurd c2 c1
          · rw [hC'.at', I2] at p1
            refine leaf_c (v := val) (κ := 6) (g := d + 6) hC hp1 hT.2.2 (by omega) I1 hC2 w1 q1 (fun σ2 h => ?_) (by omega)
            have r0 := val_c (L := L) (xs := xs) (k := X.bs i) hC'.2.1.2.1 q2 (d + 9)
            have hRo : RCO X n o' := ⟨X.bs i, q2, by rw [q3]; exact ⟨0, rfl, q4, q5⟩⟩
            have ho2 : o' ≤ 30000 := by omega
            have ec : cwd pl (X.sv (X.bs i)) = i32 (pl o' : Int) := by
              rw [q3]; unfold cwd; rw [if_pos rfl]; rw [oid_of (v := ((2, i32 (o' : Int)) : vaL)) rfl (by omega)]
            rw [ec] at r0
            have hgi : (X.hp o').gi < nr := ((hB.2.1 (X.bs i) q2).2.1.2 o' (by rw [q3]; exact ⟨0, rfl, q4, q5⟩)).1.1
            obtain ⟨r1, r2, r3⟩ := word_c (L := L) (xs := xs) (rg := rg) (cd := cd) (q := cd.ci (cd.fn D p) (D.vl p)) hC2.2.1.1 hC2.2.1.2.2.1 (hB.2.2.1.2.1 o' q4 q5).1 hgi (hC2.2.1.2.2.2.2.2.2 _ hgi).2 hRo q6 (d + 8)
            have ei : (i32 (pl o' : Int) + 1) + i32 (cd.ci (cd.fn D p) (D.vl p) : Int) = i32 ((pl o' + 1 + cd.ci (cd.fn D p) (D.vl p) : Nat) : Int) := by rw [show (1 : Int32) = i32 1 from rfl, i32_add, i32_add]; congr 1
            have r4 : rn L xs (d + 10) 265 0 [.ref 117, .int (i32 ((pl o' + 1 + cd.ci (cd.fn D p) (D.vl p) : Nat) : Int))] [] σ1 = some (.inl none, σ2) := by
              rw [e265_0 (d + 9), bI_ok r2, bI_ok r3, bV_ok h]
            rw [show t262 6 = 206 from rfl, e262_206 (d + 10), h9, bI_ok r0, bI_ok p1, ei, bV_ok r4, e262_386]
      · have e157 := (hM1.1.2.2.1 p b1).2.2.2.1 (.inl k0)
        rcases var_m (L := L) (xs := xs) hM1.1 hM1.2.2.1 hM1.2.2.2.1 hno hvb.1 (by omega) hLK (d + 2) with ⟨c, τ', z1, z2, z3⟩ | ⟨c, τ2, τ', z1, z2, z3⟩
        · refine .inl ⟨c, τ', ?_, z2, z3⟩
          rw [k0, show t418 (mKd 2) = 161 from rfl, e418_161, c_in (by omega) (by omega) (by omega), i32_ixn (by omega), e157, bV_ok z1, e418_365]
        · refine .inr ⟨c, τ2, τ', ?_, z2, z3⟩
          rw [k0, show t418 (mKd 2) = 161 from rfl, e418_161, c_in (by omega) (by omega) (by omega), i32_ixn (by omega), e157, bV_ok z1, e418_365]
  obtain ⟨v, hT, hRo, hCs, hMs⟩ := hval
  obtain ⟨X', hX⟩ : ∃ X' : dyD, X' = (uq X.sv n v, X.2) := ⟨_, rfl⟩
  have hG := hB.leaf hT hX
  obtain ⟨_, _, _, hwt⟩ := hB.ends7
  have hRn : ∀ o, RCO X' (n + 1) o → RCO X n o := fun o ⟨k, h1, h2⟩ => by
    rw [hX] at h2
    have h2 : ROb X.hp X.no (uq X.sv n v k) o := h2
    by_cases c : k = n
    · rw [c, uq_self] at h2; exact hRo o h2
    · rw [uq_ne c] at h2; exact ⟨k, by omega, h2⟩
  -- the model plans the end
  obtain ⟨τ1, u1, u2, u3⟩ := plan_m (L := L) (xs := xs) hM.2.1 (by omega) (7, p, n) (d + 4)
  have u1 : rn L xs (d + 5) 397 0 [.ref 123, .int 7, .int (i32 (p : Int)), .int (i32 (n : Int))] [] τ = some (.inl none, τ1) := u1
  have hM1 : RMm D rg cd vd N G rr wd pgs ev X ((7, p, n) :: K) i n nr fn s st oa fil mt τ1 := ⟨hM.1.fr u3 rfl rfl rfl, u2, hM.2.2.1.fr u3 rfl rfl rfl rfl rfl rfl, hM.2.2.2.1.any (X' := X) (hM.2.2.2.1.1.fr u3 rfl rfl rfl) u3 rfl rfl (by rw [u3.2 130 rfl]; exact hM.h130) rfl rfl rfl rfl (fun _ h => h), by rw [u3.2 122 rfl]; exact hM.2.2.2.2⟩
  have hk13 : mKd (D.K p) < 14 := by
    have : ∀ κ, κ ≤ 2 → mKd κ < 14 := by decide
    exact this _ hκ
  have hrun : ∀ τ', (∀ v2 v3 : Value, rn L xs (d + 6) 418 (t418 (mKd (D.K p))) [.ref 123, .int (i32 (p : Int)), v2, v3] [] τ1 = some (.inl none, τ')) → rn L xs (d + 6) 418 53 [.ref 123, .int (i32 (p : Int)), v2, v3] [] τ = some (.inl none, τ') := fun τ' h => by
    rw [e418_53, hM.2.2.2.1.1.1, bV_ok u1, c_in (by omega) (by omega) (by omega), i32_ixn (by omega), (hM1.1.2.2.1 p b1).1, swk_of (sw418 _ hk13)]
    exact h _ _
  rcases hMs τ1 _ hM1 (dj v2) (dj v3) with ⟨c, τ', z1, z2, z3⟩ | ⟨c, τ2, τ', z1, z2, z3⟩
  · rcases hCs with ⟨_, σ', y1, y2, y3, y4, y5⟩ | ⟨c2, _⟩
    · have w3 : frM [207, 208, 209, 210, 211] [132, 135, 167, 168] τ τ' := (u3.sub rfl rfl).trans (z3.sub rfl rfl)
      refine ⟨σ', τ', ?_, y3.sub rfl, w3.sub rfl rfl, .inl ⟨y1, _, hwt, X', (7, p, n) :: K, i, E, n + 1, _, nr, av, n, (D.sl p).length, fn, s, oa, fil, mt, pl, pg, fl, bk, e, hG, ⟨hM1.1.fr z3 rfl rfl rfl, hM1.2.1.fr z3 rfl rfl rfl rfl, (hM1.2.2.1.fr z3 rfl rfl rfl rfl rfl rfl).same (by rw [hX]; rfl) (by rw [hX]; rfl) (by rw [hX]; rfl), hM1.2.2.2.1.any (X' := X') (by rw [hX]; exact z2) z3 rfl rfl (by rw [z3.2 130 rfl]; exact hM1.h130) (by rw [hX]; rfl) (by rw [hX]; rfl) (by rw [hX]; rfl) (by rw [hX]; rfl) hRn, by rw [z3.2 122 rfl]; exact hM1.2.2.2.2⟩, hC.stack (by rw [hX]; exact y2) y3 y4 y5 (by rw [hX]; rfl) (by rw [hX]; rfl) (by rw [hX]; rfl) (by rw [hX]; rfl) (by rw [hX]; rfl) hRn, ?_, by rw [hX]; exact hmt, rfl⟩⟩
      · rw [e418_53, hM.2.2.2.1.1.1, bV_ok u1, c_in (by omega) (by omega) (by omega), i32_ixn (by omega), (hM1.1.2.2.1 p b1).1, swk_of (sw418 _ hk13)]
        exact z1
      · rw [hX]; exact AT.end7 (.inl ⟨rfl, .inl rfl⟩) rfl hL hA
    · omega
  · rcases hCs with ⟨c2, _⟩ | ⟨_, σ', y1, y2, y3, y4, y5⟩
    · omega
    · obtain ⟨g1, g2, g3⟩ := hM1.over z2 rfl rfl (by rw [z2.2 130 rfl]; exact hM1.h130) z3
      refine ⟨σ', τ', ?_, y3, (u3.sub rfl rfl).trans g2, .inr ⟨y1, 4, s, X.B, X.no, mt, by omega, y2, y4, y5, g1, g3, by omega⟩⟩
      rw [e418_53, hM.2.2.2.1.1.1, bV_ok u1, c_in (by omega) (by omega) (by omega), i32_ixn (by omega), (hM1.1.2.2.1 p b1).1, swk_of (sw418 _ hk13)]
      exact z1
end JLEAF
