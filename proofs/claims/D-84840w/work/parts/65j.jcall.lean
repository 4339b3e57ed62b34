/-! RUNS, BOTH: calls -/
section JCALL
variable {L : Nat} {xs : Nat → Int32} {σ σ' σ1 τ τ' τ1 : tvS} {D : pgD} {m : Nat} {rg : rgD} {cd : cdD} {T : tsD} {vd W : Nat → Nat} {M wd pgs ev N : Nat} {G : tG} {rr : Nat → Nat} {R : Nat → Int32} {cs : Nat} {X X' : dyD} {K K' : List (Nat × Nat × Nat)} {i : Nat} {E E' : Nat → trE} {n n' : Nat} {ty ty' : Nat → trE} {nr nr' : Nat} {av av' : Nat → Prop} {Lv dd dd' st w p b a κ q c j k : Nat} {fn fn' : Nat → Nat × Nat} {s s' : cSt} {oa : Nat → Nat} {fil mt : Nat} {pl : Nat → Nat} {pg : Nat → List Nat} {fl : List Nat} {bk : Nat → Nat} {d M0 : Nat} {x : obD} {t : trE}
/-- the ghost, one call more -/
theorem RGI.enter (hE : ENV D m rg cd T vd W M wd pgs ev) (hG : RGI D rg cd T vd W M wd X ((w, p, b) :: K) i E n ty nr av Lv dd st) (hw : w = 5 ∨ w = 6) (hT : TK D rg cd T vd X' ((0, k, 0) :: (8, 0, 0) :: K) (i + 1) E' n ty nr av' n dd') (e0 : X'.sv = X.sv) (e1 : X'.2.1 = X.2.1) (e2 : X'.ser = X.ser) (hff : ∀ j, j ≤ i → X'.ff j = X.ff j) (hfn : X'.ff (i + 1) ≤ D.fc) : RGI D rg cd T vd W M wd X' ((0, k, 0) :: (8, 0, 0) :: K) (i + 1) E' n ty nr av' n dd' st ∧ wtK ((0, k, 0) :: (8, 0, 0) :: K) < wtK ((w, p, b) :: K) := by
  obtain ⟨⟨f1, f2, f3, b1, b2⟩, _⟩ := hG.on hE (by omega)
  obtain ⟨⟨c1, c2, c3, c4, c5, c6⟩, ⟨g1, g2, g3, g4, g5⟩, _⟩ := hG.opt (by omega)
  obtain ⟨h1, h2, h3, h4, h5, _, G1, _⟩ := id hG
  have hh : X'.hp = X.hp := by unfold dyD.hp; rw [e1]
  have hn0 : X'.no = X.no := by unfold dyD.no; rw [e1]
  have hB : X'.B = X.B := by unfold dyD.B; rw [e1]
  have w1 : wtK ((0, k, 0) :: (8, 0, 0) :: K) = (if 8 = 0 then 0 else if 8 = 5 ∨ 8 = 6 then 3 else 1) + wtK K := by rw [wtK_0]; rfl
  rw [if_neg (by omega), if_neg (by omega)] at w1
  have w2 : wtK ((w, p, b) :: K) = (if w = 0 then 0 else if w = 5 ∨ w = 6 then 3 else 1) + wtK K := rfl
  rw [if_neg (by omega), if_pos hw] at w2
  refine ⟨⟨hT, Nat.le_refl _, by rw [e0, hh, hn0, hB, e2]; exact h3, ?_, fun q hq => ?_, ?_, ?_⟩, by omega⟩
  · have : H200 D rg cd X' := by unfold H200; rw [hh, hn0]; exact h4.2.1
    rw [hh, hn0]; exact ⟨h4.1, this, h4.2.2⟩
  · by_cases c : q = i + 1
    · rw [c]; exact hfn
    · rw [hff q (by omega)]; exact h5 q (by omega)
  · rw [hn0, hB, e2]
    have o1 : opN ((0, k, 0) :: (8, 0, 0) :: K) = (if 1 ≤ 0 ∧ 0 ≤ 6 then 1 else 0) + ((if 1 ≤ 8 ∧ 8 ≤ 6 then 1 else 0) + opN K) := rfl
    have o2 : nE ((0, k, 0) :: (8, 0, 0) :: K) = (if 0 = 7 then 1 else 0) + ((if 8 = 7 then 1 else 0) + nE K) := rfl
    rw [if_neg (by omega), if_neg (by omega)] at o1 o2
    exact ⟨by omega, by omega, c3, c4, c5, c6⟩
  · rcases G1 with ⟨q, _⟩ | ⟨q, _⟩ | ⟨q, _⟩ | ⟨_, _, _, ⟨b', K', q⟩, q'⟩
    · omega
    · omega
    · omega
    · have o3 : nR ((0, k, 0) :: (8, 0, 0) :: K) = (if 0 = 8 then 1 else 0) + ((if 8 = 8 then 1 else 0) + nR K) := rfl
      rw [if_neg (by omega), if_pos rfl] at o3
      refine ⟨.inl ⟨rfl, .inr (.inr (.inl ⟨rfl, Nat.le_refl _, ⟨p, b', K', q⟩, q'⟩))⟩, by omega, ⟨fun e => absurd (show (0 : Nat) = 8 from e) (by decide), fun _ => ?_, g3⟩, ⟨fun _ => ?_, fun e => ?_, g4⟩, fun e he => ?_⟩
      · rw [q] at g4 ⊢
        have z : lu D K' + W p ≤ M := g4.1 (.inr rfl)
        have z2 := hE.cwl f1 f2 f3
        have eL : lu D ((7, p, b') :: K') = if 7 = 8 then 0 else (if 7 = 7 then cwt D p else 0) + lu D K' := rfl
        rw [eL, if_neg (by omega), if_pos rfl]
        omega
      · have eL : lu D ((8, 0, 0) :: K) = if 8 = 8 then 0 else (if 8 = 7 then cwt D 0 else 0) + lu D K := rfl
        show lu D ((8, 0, 0) :: K) + W k ≤ M
        rw [eL, if_pos rfl]
        have := hE.2.1.2.1 k
        omega
      · rcases e with e | e
        · exact absurd (show (8 : Nat) = 0 from e) (by decide)
        · exact absurd (show (8 : Nat) = 7 from e) (by decide)
      · rcases List.mem_cons.mp he with z | z
        · subst z; exact ⟨fun e => absurd (show 1 ≤ (0 : Nat) from e) (by decide), fun e => absurd (show (0 : Nat) = 5 from e) (by decide)⟩
        · rcases List.mem_cons.mp z with z | z
          · subst z; exact ⟨fun _ e => absurd (show (8 : Nat) ≤ 6 from e) (by decide), fun e => absurd (show (8 : Nat) = 5 from e) (by decide)⟩
          · exact g5 e z
theorem AT.call (h : AT D rg cd R cs X.ff bk ((5, p, b) :: K) i a n) : R a = 24 ∧ R (a + 1) = i32 (D.vl p : Int) ∧ R (a + 2) = i32 ((rg.gl (D.vl p)).length : Int) ∧ (∀ j, j < (rg.gl (D.vl p)).length → R (a + 3 + 2 * j) = i32 (handN D rg (X.ff i) p j : Int) ∧ R (a + 4 + 2 * j) = i32 ((rg.gl (D.vl p)).getD j 0 : Nat)) ∧ AT D rg cd R cs X.ff bk K i (a + 3 + 2 * (rg.gl (D.vl p)).length) (n + 1 - (D.kd p).length) := by
  rcases h with ⟨q, _⟩ | ⟨q, _⟩ | ⟨q, _⟩ | ⟨q, _⟩ | ⟨q, _⟩ | ⟨q, _⟩ | ⟨q, _⟩ | ⟨q, _⟩ | ⟨_, h⟩ | ⟨q, _⟩
  · omega
  · omega
  · omega
  · omega
  · omega
  · omega
  · omega
  · omega
  · exact h
  · omega
theorem AT.appl (h : AT D rg cd R cs X.ff bk ((6, p, b) :: K) i a n) : R a = 25 ∧ AT D rg cd R cs X.ff bk K i (a + 1) (n - 1) := by
  rcases h with ⟨q, _⟩ | ⟨q, _⟩ | ⟨q, _⟩ | ⟨q, _⟩ | ⟨q, _⟩ | ⟨q, _⟩ | ⟨q, _⟩ | ⟨q, _⟩ | ⟨q, _⟩ | ⟨_, h⟩
  · omega
  · omega
  · omega
  · omega
  · omega
  · omega
  · omega
  · omega
  · omega
  · exact h
theorem KGr.top (h : KGr D ((w, p, b) :: K) 0 1) (hw : 1 ≤ w ∧ w ≤ 6) : ∃ (b' : Nat) (K' : List (Nat × Nat × Nat)), K = (7, p, b') :: K' := by
  rcases h with ⟨q, _⟩ | ⟨q, _⟩ | ⟨q, _⟩ | ⟨_, _, _, h, _⟩
  · omega
  · omega
  · omega
  · exact h
/-- a call -/
theorem J_call (hE : ENV D m rg cd T vd W M wd pgs ev) (hG : RGI D rg cd T vd W M wd X ((5, p, b) :: K) i E n ty nr av Lv dd st) (hM : RMm D rg cd vd N G rr wd pgs ev X ((5, p, b) :: K) i n nr fn s st oa fil mt τ) (hC : RMc D rg cd R cs wd pgs ev X i n nr fn s st pl pg fl bk a σ) (hA : AT D rg cd R cs X.ff bk ((5, p, b) :: K) i a n) (hmt : mt ≤ M0 + 3 * X.no ∧ s.cp ≤ M0 + 80001) :
    JST L xs d D rg cd T vd W M N G rr R cs wd pgs ev M0 st (wtK ((5, p, b) :: K)) σ τ := by
  have hkl := hG.kle hE hM.2.2.1.2.2.1
  have hkl : K.length + 1 + 20 < 130000 := hkl
  obtain ⟨⟨f1, f2, f3, b1, b2⟩, hPF, hS, hV, hcon, hP, hW, o3, o4, o6⟩ := hG.on hE (by omega)
  have hκ : D.K p = 3 := by rcases hW with ⟨q, h⟩ | ⟨q, h⟩ | ⟨q, h⟩ | ⟨q, h⟩ | ⟨q, h⟩ | ⟨q, h⟩ <;> omega
  obtain ⟨A1, A2, A3, A4, A5⟩ := hA.call
  obtain ⟨h31, h32, h33, h34⟩ := hPF.2.2.2.1 hκ
  have hw2 : wkN D 5 p = (D.kd p).length := by unfold wkN; rw [if_neg (by omega)]
  rw [hw2] at o3 o6
  obtain ⟨K', o5⟩ := (TK.on hG.1 (by omega)).2.2.2.2.1
  have hno := hG.no_le
  obtain ⟨g, hg⟩ : ∃ g, g = D.vl p := ⟨_, rfl⟩
  have hP0 := hE.1.1.1
  have hnKf : ∀ j, j ≤ i → rg.nK (X.ff j) ≤ 60 := fun j hj => hE.1.2.2.2.2.2.2.2.2 (X.ff j) (hG.2.2.2.2.1 j hj)
  have hnKg := hE.1.2.2.2.2.2.2.2.2 g (by omega)
  have hgl : (rg.gl g).length ≤ 60 := by have : (rg.gl g).length ≤ rg.nK g := nfil_len _; omega
  have hnd : (rg.gl g).Nodup := nfil_nodup _
  have hm : ∀ j, j < (rg.gl g).length → 1 ≤ (rg.gl g).getD j 0 ∧ (rg.gl g).getD j 0 ≤ 60 := fun j hj => by
    have := gl_mem.mp (getD_mem hj)
    omega
  have hnr2 : nr ≤ 2000 := hM.2.2.2.1.2.2.1.1.2.1
  have hh : ∀ j, j < (rg.gl g).length → 1 ≤ handN D rg (X.ff i) p j ∧ handN D rg (X.ff i) p j ≤ rg.nK (X.ff i) ∧ X.aR i (handN D rg (X.ff i) p j) < 2000 := fun j hj => by
    obtain ⟨q1, q2, q3⟩ := PRT.put (k := handN D rg (X.ff i) p j) hE.1 hP (.inr ⟨hκ, j, by rw [← hg]; exact hj, rfl⟩)
    have := (hP.2.1.2.2 _ q1).2.2.1
    exact ⟨q2, q3, by omega⟩
  have hnKi := hnKf i (Nat.le_refl _)
  rw [← hg] at A2 A3 A4 A5
  obtain ⟨X', hX⟩ : ∃ X' : dyD, X' = caX D rg X i p Lv := ⟨_, rfl⟩
  have hCA : CAd D rg X X' i p Lv := by rw [hX]; exact caX_ok (by rw [← hg]; exact hnd)
  obtain ⟨E', av', hT⟩ := T_call hE.1 hG.2.2.2.1.1 (by omega) hG.2.2.2.2.2.1.2.2.2.1 hG.1 hCA
  have eff : ∀ j, j ≤ i → X'.ff j = X.ff j := fun j hj => by unfold dyD.ff; rw [hCA.2.2.2.2.2.1 j hj]
  have effn : X'.ff (i + 1) = g := by unfold dyD.ff; rw [hCA.2.2.2.2.2.2.1, hg]
  rw [← hg] at hT
  obtain ⟨hG', hwt⟩ := hG.enter hE (.inl rfl) hT hCA.1 (by rw [hX]; rfl) hCA.2.2.2.2.1 eff (by rw [effn]; omega)
  have hp1 : 1 ≤ pgs := by have := hE.2.2.1.2.2.1; omega
  -- the model
  obtain ⟨m1, m2⟩ := hM.pop
  have mstep : ∀ τ1, rn L xs (d + 5) 414 0 [.ref 123, .int (i32 (p : Int)), jv, jv, jv, jv] [] (wr τ 123 135 (i32 (K.length : Int))) = some (.inl none, τ1) → MGo L xs d τ τ1 := fun τ1 u1 => by
    refine mgo_on hM.2.1 hM.2.2.2.2 (by omega) (by omega) ?_
    rw [e399_0, swk_of (sw399 5 (by omega)), show t399 5 = 223 from rfl, e399_223, bV_ok u1, e399_268]
  have hMs := call_m (L := L) (xs := xs) (b := Lv) m1.1 hE.1.1 m1.2.2.1 m1.2.2.2.1.1 m1.2.1 (by omega) rfl f1 f2 f3 hκ (by omega) (by rw [← hg]; exact hgl) (by rw [← hg]; exact hnd) (fun j hj => by rw [← hg] at hj ⊢; have := hm j hj; omega) (fun j hj => by rw [← hg] at hj; have := hh j hj; exact ⟨by omega, this.2.2⟩) (d + 1)
  -- the component
  have hlt := AT.lt _ _ _ _ A5
  have hC' := hC.next
  have p1 := next_c (L := L) (xs := xs) hC'.1 hC'.2.2.2.2.1 (by omega) (d + 8)
  rw [hC'.at', A2] at p1
  have hC2 := hC'.next
  obtain ⟨σ1, eσ⟩ : ∃ σ1, σ1 = wr (wr σ 117 8 (i32 ((a + 1 : Nat) : Int))) 117 8 (i32 ((a + 1 + 1 : Nat) : Int)) := ⟨_, rfl⟩
  rw [← eσ] at p1 hC2
  have w1 : frW [117] σ σ1 := by rw [eσ]; exact (frW_wr rfl).trans (frW_wr rfl)
  have hop : ∀ σ2, rn L xs (d + 10) 272 0 [.ref 117, .int (i32 (g : Int)), jv, jv, jv, jv, jv] [] σ1 = some (.inl none, σ2) → rn L xs (d + 11) 262 (t262 24) [.ref 117, .int (i32 ((24 : Nat) : Int)), jv, jv] [] (wr σ 117 8 (i32 ((a + 1 : Nat) : Int))) = some (.inl none, σ2) := fun σ2 u1 => by
    rw [show t262 24 = 348 from rfl, e262_348 (d + 10), bI_ok p1, bV_ok u1, e262_386]
  have hRa : rd σ 95 a = i32 ((24 : Nat) : Int) := by rw [hC.at', A1]; rfl
  obtain ⟨Ep, eb, F1, F2, F3, F4⟩ := (hC2.1.2.1 g (by omega)).1
  rw [hC2.2.2.2.2.2] at F2 F3
  rw [if_neg (by omega)] at F3
  have hCs := ccall_c (L := L) (xs := xs) (E := Ep) (g := g) (p := p) (b := Lv) (a := a + 2) (f := X.ff i) hC2.1 hC2.2.1 hC2.2.2.1 hC2.2.2.2.1 hp1 rfl f1 hP0.1 (by omega) hg.symm hnKf hgl hnd hm hh hC2.2.2.2.2.1 (by omega) (by rw [hC2.at', A3]) (fun j hj => by rw [hC2.at', hC2.at', show a + 2 + 1 + 2 * j = a + 3 + 2 * j by omega, show a + 3 + 2 * j + 1 = a + 4 + 2 * j by omega]; exact A4 j hj) (by rw [hg, ← h34]; omega) F1 (d + 6)
  rcases hMs with ⟨i3, τ1, z1, z2⟩ | ⟨i3, τ1, z1, z2, z3, z4, z5⟩
  · rcases hCs with ⟨_, σ2, y1, y2, y3⟩ | ⟨y0, _⟩
    · obtain ⟨g1, g2, g3⟩ := m1.over (frM.refl (S := []) (F := [])) rfl rfl m1.h130 z2
      exact ⟨σ2, τ1, mstep τ1 z1, (w1.sub rfl).trans y3, (m2.sub rfl rfl).trans g2, .inr ⟨cgo_end hC.1 hC.2.2.2.2.1 (by omega) (κ := 24) hRa (by omega) (hop σ2 y1) y2.2.1.1 (by omega), 4, s, X.B, X.no, mt, by omega, y2, hC2.1.fr y3 rfl, by rw [← hC2.2.2.2.2.2]; funext z; exact y3.1 95 rfl z, g1, g3, by omega⟩⟩
    · omega
  · rcases hCs with ⟨y0, _⟩ | ⟨_, σ2, y1, y2, y3, y4, y5⟩
    · omega
    · have w3 : frW RCr σ σ2 := (w1.sub rfl).trans (y5.sub rfl)
      have e95 : rd σ2 95 = R := by rw [← hC2.2.2.2.2.2]; funext z; exact y5.1 95 rfl z
      have h5 : rd σ2 117 5 = 1 := by rw [y4 5 (by omega)]; exact hC2.2.2.2.1.2.2.2.2.1
      have hRn : ∀ o, RCO X' n o → RCO X n o := by rw [hX]; exact fun _ h => h
      have hC3 : RMc D rg cd R cs wd pgs ev X' (i + 1) n nr fn s st pl pg fl (uq bk i (a + 2 + 1 + 2 * (rg.gl g).length)) Ep σ2 := by
        refine ⟨hC2.1.fr y5 rfl, ?_, by rw [hX]; exact y2, ?_, y3, e95⟩
        · have := hC2.2.1.fr y5 rfl
          rw [hX]; exact this
        · rw [hX]
          exact hC2.2.2.2.1.fr (fun z _ => y5.1 103 rfl z) (fun z hz => y4 z hz) (fun j hj z => by rcases hj with e | e <;> rw [e] <;> exact y5.1 _ rfl z)
      have hMk : MSk fn s X' n nr st oa fil mt pgs wd ev τ1 := m1.2.2.2.1.any (X' := X') (by rw [hX]; exact m1.2.2.2.1.1.fr z5 rfl rfl rfl) z5 rfl rfl (by rw [z5.2 130 rfl]; exact m1.h130) (by rw [hX]; rfl) (by rw [hX]; rfl) (by rw [hX]; rfl) (by rw [hX]; rfl) hRn
      refine ⟨σ2, τ1, mstep τ1 z1, w3, (m2.sub rfl rfl).trans (z5.sub rfl rfl), .inl ⟨cgo_on hC.1 hC.2.2.2.2.1 (by omega) (κ := 24) hRa (by omega) (hop σ2 y1) h5, _, hwt, X', (0, D.bP (g + 1) - 1, 0) :: (8, 0, 0) :: K, i + 1, E', n, ty, nr, av', n, D.bk g, fn, s, oa, fil, mt, pl, pg, fl, uq bk i (a + 2 + 1 + 2 * (rg.gl g).length), Ep, hG', ⟨z4, by rw [hg]; exact z3, by rw [hX]; exact z2, hMk, by rw [z5.2 122 rfl]; exact m1.2.2.2.2⟩, hC3, .inl ⟨rfl, 100, eb, by rw [effn]; exact F2, .inr (.inr (.inl ⟨rfl, F4, F3, i, p, Lv, K', rfl, o5, ?_⟩))⟩, by rw [hX]; exact hmt, rfl⟩⟩
      rw [uq_self]
      refine AT.congr _ _ _ _ eff (fun j hj => uq_ne (by omega)) ?_
      rw [show a + 2 + 1 + 2 * (rg.gl g).length = a + 3 + 2 * (rg.gl g).length by omega, show Lv + 1 = n + 1 - (D.kd p).length by omega]
      exact A5
end JCALL
