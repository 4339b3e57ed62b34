/-! TYPING, BOTH: the type of a part that is a part of another's type; a call's -/
section OWNK
variable {L : Nat} {xs : Nat → Int32} {σ σ' τ τ' : tvS}
theorem CT.fr52 {K1 K2 N : Nat} {C : tG} {c : Nat → Nat} {h : Nat → Nat → Prop} {H S : Nat} (hT : CT K1 K2 N C c h H S σ) (w : frW [52] σ σ') (hl : TC N C c σ') : CT K1 K2 N C c h H S σ' := by
  obtain ⟨hl', hv, h1, h2, h3, h4, h5, h6, h7, h8⟩ := hT
  exact ⟨hl', hv, hl, h2.fr (w.G []) (w.1 50 rfl 11) ⟨rfl, rfl, rfl, rfl⟩ ⟨rfl, rfl⟩, h3, h4.T (w.T [] [] rfl) rfl rfl, h5.fr w, h6, h7, h8⟩
theorem MY.fr169 {N : Nat} {M : tG} {m : Nat → Nat} {h : Nat → Nat → Prop} {H Sm Sh : Nat} (hT : MY N M m h H Sm Sh τ) (w : frM [169] [] τ τ') (hl : TM N M m τ') : MY N M m h H Sm Sh τ' := by
  obtain ⟨hl', hv, ⟨h1, h2, h3, h4, h5⟩, h6, h7, h8⟩ := hT
  exact ⟨hl', hv, ⟨hl, h2.fr w rfl ⟨rfl, rfl, rfl⟩, h3, h4.fr w rfl ⟨rfl, rfl⟩, h5.fr w rfl rfl⟩, h6, h7, h8⟩
variable {K1 K2 Bc Bm f : Nat} {Rc Rm : Nat → Nat → Prop} {pd : List (Nat × List Nat × (Nat → Nat))} {n u a rc : Nat} {T : tyJ} {p : Nat}
/-- a boxed type's root and its mate's, with their parts -/
theorem TJ.kid {x y : Nat} (hT : TJ K1 K2 Bc Bm f Rc Rm pd n u a rc T σ τ) (hz : T.2.2 x y) (c1 : cuN Bc x) (c2 : cuN Bm y) (hk : 2 ≤ T.1.2.1.1 (T.1.2.2.1 x)) (d dm : Nat) :
    (∃ (σ' : tvS) (A : Nat), rn L xs (d + 2) 91 0 [.ref 50, .int (i32 (x : Int))] [] σ = some (.inl (some (.int (i32 (A : Int)))), σ') ∧ A = T.1.2.1.2.1 (T.1.2.2.1 x) ∧ TJ K1 K2 Bc Bm f Rc Rm pd n u a rc T σ' τ ∧ frT gro8 gro8 [8] σ σ') ∧
    (T.1.2.1.1 (T.1.2.2.1 x) ≠ 3 → ∃ (σ' : tvS) (A : Nat), rn L xs (d + 2) 92 0 [.ref 50, .int (i32 (x : Int))] [] σ = some (.inl (some (.int (i32 (A : Int)))), σ') ∧ A = T.1.2.1.2.2 (T.1.2.2.1 x) ∧ TJ K1 K2 Bc Bm f Rc Rm pd n u a rc T σ' τ ∧ frT gro8 gro8 [8] σ σ') ∧
    (∃ (τ' : tvS), rn L xs (dm + 1) 337 0 [.ref 123, .int (i32 (y : Int)), jv, jv, jv] [] τ = some (.inl (some (.int (i32 (T.2.1.2.2.1 y : Int)))), τ') ∧ T.2.1.2.2.1 y < 100000 ∧ rd τ' 167 (T.2.1.2.2.1 y) = i32 (T.2.1.2.1.2.1 (T.2.1.2.2.1 y) : Int) ∧ (T.1.2.1.1 (T.1.2.2.1 x) ≠ 3 → rd τ' 168 (T.2.1.2.2.1 y) = i32 (T.2.1.2.1.2.2 (T.2.1.2.2.1 y) : Int)) ∧ (∀ σ, TJ K1 K2 Bc Bm f Rc Rm pd n u a rc T σ τ → TJ K1 K2 Bc Bm f Rc Rm pd n u a rc T σ τ') ∧ frM gro9 [63] τ τ') ∧
    (T.2.2 (T.1.2.1.2.1 (T.1.2.2.1 x)) (T.2.1.2.1.2.1 (T.2.1.2.2.1 y)) ∧ cuN Bc (T.1.2.1.2.1 (T.1.2.2.1 x)) ∧ cuN Bm (T.2.1.2.1.2.1 (T.2.1.2.2.1 y))) ∧
    (T.1.2.1.1 (T.1.2.2.1 x) ≠ 3 → T.2.2 (T.1.2.1.2.2 (T.1.2.2.1 x)) (T.2.1.2.1.2.2 (T.2.1.2.2.1 y)) ∧ cuN Bc (T.1.2.1.2.2 (T.1.2.2.1 x)) ∧ cuN Bm (T.2.1.2.1.2.2 (T.2.1.2.2.1 y))) := by
  obtain ⟨⟨Nc, C, c, hc, Hc, S⟩, ⟨Nm, M, m, hm, Hm, Sm, Sh⟩, Z⟩ := T
  obtain ⟨⟨hCt, hM, hJ⟩, fC, fM, hP, hb⟩ := id hT
  have hCt : CT K1 K2 Nc C c hc Hc S σ := hCt
  have hM : MY Nm M m hm Hm Sm Sh τ := hM
  have hJ : JZ Nc C c hc Nm M m hm Z := hJ
  have fC : FB1 Bc Nc C c hc f Rc := fC
  have fM : FB1 Bm Nm M m hm f Rm := fM
  have hk : 2 ≤ C.1 (c x) := hk
  have hz : Z x y := hz
  have b := hJ.2.2.1 _ _ hz
  obtain ⟨gC, tC, hR⟩ : gP C c ∧ TC Nc C c σ ∧ ROOM K1 K2 σ := by
    obtain ⟨hl, hv, h1, _, _, _, h5, h6, _⟩ := hCt
    exact ⟨h6, h1, h5⟩
  obtain ⟨gM, tM⟩ : gP M m ∧ TM Nm M m τ := by
    obtain ⟨hl, hv, ⟨h1, _⟩, h6, _⟩ := hM
    exact ⟨h6, h1⟩
  have kk := hJ.1.2.2.1 x y hz
  have zk := hJ.1.2.2.2 x y hz hk
  have iC := tC.2.2.2.2.2.2.2
  have iM := tM.2.2.2.2.2.2
  have nz : c x ≠ 0 := fun e => by rw [e, (iC 0).mpr rfl] at hk; omega
  have nz' : m y ≠ 0 := fun e => by rw [e, (iM 0).mpr rfl] at kk; omega
  have c0 : c 0 = 0 := (iC _).mp (by rw [gC.2.1 0 (by rw [(iC 0).mpr rfl]; omega)]; exact (iC 0).mpr rfl)
  have m0 : m 0 = 0 := (iM _).mp (by rw [gM.2.1 0 (by rw [(iM 0).mpr rfl]; omega)]; exact (iM 0).mpr rfl)
  have bx : Bc ≤ c x := by
    rcases c1 with q | q
    · exact (fC.2.2.2.1 x q).elim id (fun k => absurd k nz)
    · rw [q, c0] at nz; exact absurd rfl nz
  have bm : Bm ≤ m y := by
    rcases c2 with q | q
    · exact (fM.2.2.2.1 y q).elim id (fun k => absurd k nz')
    · rw [q, m0] at nz'; exact absurd rfl nz'
  have fb := fC.2.2.2.2.1 (c x) bx hk
  have fm := fM.2.2.2.2.1 (m y) bm (by omega)
  have rl := tM.rlt b.2
  have hN := tM.2.2.1
  have TJs : ∀ σ', CT K1 K2 Nc C c hc Hc S σ' → TJ K1 K2 Bc Bm f Rc Rm pd n u a rc ((Nc, C, c, hc, Hc, S), (Nm, M, m, hm, Hm, Sm, Sh), Z) σ' τ := fun σ' h => ⟨⟨h, hM, hJ⟩, fC, fM, hP, hb⟩
  refine ⟨?_, fun h3 => ?_, ?_, ⟨zk.1, fb.1, fm.1⟩, fun h3 => ⟨zk.2 h3, fb.2 h3, fm.2 (by have h3 : C.1 (c x) ≠ 3 := h3; omega)⟩⟩
  · obtain ⟨σ', a1, a2, a3, a4⟩ := first_c (L := L) (xs := xs) (K := fun _ => True) (tC.q _) hR b.1 hk trivial d
    exact ⟨σ', _, a1, rfl, TJs σ' (hCt.fr52 a4 (a2.all (fun _ _ _ => trivial))), (a4.T gro8 [8] rfl).sub rfl rfl rfl⟩
  · obtain ⟨σ', a1, a2, a3, a4⟩ := second_c (L := L) (xs := xs) (K := fun _ => True) (tC.q _) hR b.1 hk h3 trivial d
    exact ⟨σ', _, a1, rfl, TJs σ' (hCt.fr52 a4 (a2.all (fun _ _ _ => trivial))), (a4.T gro8 [8] rfl).sub rfl rfl rfl⟩
  · obtain ⟨τ', a1, a2, a3⟩ := find_M (L := L) (xs := xs) tM b.2 dm jv jv jv
    have k := (a2.2.2.2.2.2.1 (m y) rl).2.2 (by omega)
    refine ⟨τ', a1, by show m y < 100000; omega, k.1, fun h3 => (k.2.2 (by have h3 : C.1 (c x) ≠ 3 := h3; omega)).1, fun σ1 h => ?_, a3.sub rfl rfl⟩
    obtain ⟨⟨g1, g2, g3⟩, g4⟩ := h
    exact ⟨⟨g1, hM.fr169 a3 a2, g3⟩, g4⟩
/-- fst, snd and application: a part of the type of the first part -/
theorem own_of {κ q x y : Nat} (hT : TJ K1 K2 Bc Bm f Rc Rm pd n u a rc T σ τ) (hp : p < 4101) (hκ : κ = 5 ∨ κ = 6 ∨ κ = 7) (h1 : rd σ 16 p = i32 (κ : Int)) (h2 : rd τ 151 p = i32 (mKd κ : Int)) (hw5 : κ = 5 → rd τ 157 p = i32 14) (hw6 : κ = 6 → rd τ 157 p = i32 15) (hq : q < 4101) (h3 : rd σ 20 p = i32 (q : Int)) (h3' : rd τ 154 p = i32 (q : Int)) (h5 : rd σ 66 q = i32 (x : Int)) (h5' : rd τ 178 q = i32 (y : Int)) (hz : T.2.2 x y) (c1 : cuN Bc x) (c2 : cuN Bm y) (hk : T.1.2.1.1 (T.1.2.2.1 x) = 2 ∨ T.1.2.1.1 (T.1.2.2.1 x) = 4) (d dm : Nat) : OWN L xs K1 K2 Bc Bm f Rc Rm pd pd n u a rc rc T p d dm σ τ (fun tc T' _ t => frM gro9 [63] τ t ∧ T' = T ∧ (κ = 5 → tc = (yG T).2.1 (yC T x)) ∧ (κ ≠ 5 → tc = (yG T).2.2 (yC T x))) := by
  obtain ⟨⟨s1, A, a1, a2, a3, a4⟩, sec, ⟨t1, b1, b2, b3, b4, b5, b6⟩, z1, z2⟩ := hT.kid (L := L) (xs := xs) hz c1 c2 (by omega) (d + 2) (dm + 5)
  have n3 : T.1.2.1.1 (T.1.2.2.1 x) ≠ 3 := fun e => hk.elim (fun k => absurd (k.symm.trans e) (by decide)) (fun k => absurd (k.symm.trans e) (by decide))
  obtain ⟨s2, B, e1, e2, e3, e4⟩ := sec n3
  have z2 := z2 n3
  have b4 := b4 n3
  rcases hκ with h | h | h
  · subst h
    refine ⟨A, T.2.1.2.1.2.1 (T.2.1.2.2.1 y), s1, t1, T, ?_, fun w => ?_, b5 _ a3, exT.refl, by rw [a2]; exact z1.1, by rw [a2]; exact z1.2.1, z1.2.2, a4, b6, rfl, fun _ => a2, fun h => absurd rfl h⟩
    · rw [own0_c (κ := 5) hp (by omega) h1 (d + 4), show t147 5 = 197 from rfl, e147_197 (d + 4), c_in (by omega) (by omega) (by omega), i32_ixn (by omega), h3, c_in (by omega) (by omega) (by omega), i32_ixn (by omega), h5, bI_ok a1]
    · rw [own0_m (κ := 6) (by omega) (by omega) h2 (dm + 6), show t334 6 = 148 from rfl, hw5 rfl, e334_148 (dm + 6), show (14 : Int32) = i32 14 from rfl, c2_ne (by omega) (by omega) (by omega) (by omega), c_f (by omega), c_in (by omega) (by omega) (by omega), i32_ixn (by omega), h3', c_in (by omega) (by omega) (by omega), i32_ixn (by omega), h5', bI_ok b1, c_in (by omega) (by omega) (by omega), i32_ixn (by omega), b3, e334_197]
  · subst h
    refine ⟨B, T.2.1.2.1.2.2 (T.2.1.2.2.1 y), s2, t1, T, ?_, fun w => ?_, b5 _ e3, exT.refl, by rw [e2]; exact z2.1, by rw [e2]; exact z2.2.1, z2.2.2, e4, b6, rfl, fun h => absurd h (by decide), fun _ => e2⟩
    · rw [own0_c (κ := 6) hp (by omega) h1 (d + 4), show t147 6 = 219 from rfl, e147_219 (d + 4), c_in (by omega) (by omega) (by omega), i32_ixn (by omega), h3, c_in (by omega) (by omega) (by omega), i32_ixn (by omega), h5, bI_ok e1]
    · rw [own0_m (κ := 6) (by omega) (by omega) h2 (dm + 6), show t334 6 = 148 from rfl, hw6 rfl, e334_148 (dm + 6), show (14 : Int32) = i32 14 from rfl, c2_ne (by omega) (by omega) (by omega) (by omega), c_t (by omega), e334_177 (dm + 6), c_in (by omega) (by omega) (by omega), i32_ixn (by omega), h3', c_in (by omega) (by omega) (by omega), i32_ixn (by omega), h5', bI_ok b1, c_in (by omega) (by omega) (by omega), i32_ixn (by omega), b4, e334_197]
  · subst h
    refine ⟨B, T.2.1.2.1.2.2 (T.2.1.2.2.1 y), s2, t1, T, ?_, fun w => ?_, b5 _ e3, exT.refl, by rw [e2]; exact z2.1, by rw [e2]; exact z2.2.1, z2.2.2, e4, b6, rfl, fun h => absurd h (by decide), fun _ => e2⟩
    · rw [own0_c (κ := 7) hp (by omega) h1 (d + 4), show t147 7 = 219 from rfl, e147_219 (d + 4), c_in (by omega) (by omega) (by omega), i32_ixn (by omega), h3, c_in (by omega) (by omega) (by omega), i32_ixn (by omega), h5, bI_ok e1]
    · rw [own0_m (κ := 7) (by omega) (by omega) h2 (dm + 6), show t334 7 = 198 from rfl, e334_198 (dm + 6), c_in (by omega) (by omega) (by omega), i32_ixn (by omega), h3', c_in (by omega) (by omega) (by omega), i32_ixn (by omega), h5', bI_ok b1, c_in (by omega) (by omega) (by omega), i32_ixn (by omega), b4]
end OWNK
