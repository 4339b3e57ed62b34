/-! RUNS, BOTH: parts of a part are planned -/
/-- what comes of a beginning, behind the regions -/
def JBE (L : Nat) (xs : Nat → Int32) (d : Nat) (D : pgD) (rg : rgD) (cd : cdD) (T : tsD) (vd W : Nat → Nat) (M N : Nat) (G : tG) (rr : Nat → Nat) (R : Nat → Int32) (cs wd pgs ev M0 st p μ : Nat) (σ τ : tvS) : Prop :=
  ∀ v2 v3 : Value, ∃ σ' τ' : tvS, rn L xs (d + 6) 418 53 [.ref 123, .int (i32 (p : Int)), v2, v3] [] τ = some (.inl none, τ') ∧ frW RCr σ σ' ∧ frM RAr RFl τ τ' ∧ ((CGo L xs d σ σ' ∧ ∃ μ', μ' ≤ μ + 4 ∧ RUN D rg cd T vd W M N G rr R cs wd pgs ev M0 st μ' σ' τ') ∨ (CEn L xs d σ σ' ∧ OVR D rg cd vd N G rr R cs wd pgs ev M0 st σ' τ'))
section JKIDS
variable {L : Nat} {xs : Nat → Int32} {σ σ' σ1 τ τ' τ1 : tvS} {D : pgD} {m : Nat} {rg : rgD} {cd : cdD} {T : tsD} {vd W : Nat → Nat} {M wd pgs ev N : Nat} {G : tG} {rr : Nat → Nat} {R : Nat → Int32} {cs : Nat} {X X' X0 : dyD} {K K' : List (Nat × Nat × Nat)} {i : Nat} {E E' E0 : Nat → trE} {n n' : Nat} {ty ty' : Nat → trE} {nr nr' nr0 : Nat} {av av' av0 : Nat → Prop} {Lv dd dd' st w p b a κ q c j k e b' dc f : Nat} {fn fn' : Nat → Nat × Nat} {s s' : cSt} {oa : Nat → Nat} {fil mt : Nat} {pl : Nat → Nat} {pg : Nat → List Nat} {fl : List Nat} {bk ff : Nat → Nat} {d M0 : Nat} {x : obD} {t : trE}
theorem AT.end7 {a' sl : Nat} (hT : TLc R a' sl e) (hn : n' = n + 1 + sl) (hL : LVc rg R (ff i) p e b') (hA : AT D rg cd R cs ff bk K i b' (n + 1)) : AT D rg cd R cs ff bk ((7, p, n) :: K) i a' n' := .inr (.inl ⟨rfl, sl, e, b', hT, hn, hL, hA⟩)
theorem AT.plan (hPF : PFp D m f p) (hI : INN D rg cd R (ff i) (CA D rg cd R (ff i) dc) p a e) (hw : WKK w (D.K p)) (hL : LVc rg R (ff i) p e b') (hA : AT D rg cd R cs ff bk K i b' (n + 1)) : AT D rg cd R cs ff bk (plK D w p 0 ((7, p, n) :: K)) i a n := by
  have e0 : plK D w p 0 ((7, p, n) :: K) = ((D.kd p).take (wkN D w p)).map (fun k => ((0, k, 0) : Nat × Nat × Nat)) ++ ((w, p, 0) :: (7, p, n) :: K) := rfl
  rw [e0]
  have hall : ¬ (w = 2 ∨ w = 3 ∨ w = 4) → (D.kd p).take (wkN D w p) = D.kd p := fun h => by
    unfold wkN; rw [if_neg h, List.take_length]
  have htl : ∀ z, z = e → TLc R z 0 e := fun z hz => .inl ⟨rfl, .inl hz⟩
  rcases hw with ⟨w1, hκ⟩ | ⟨w1, hκ⟩ | ⟨w1, hκ⟩ | ⟨w1, hκ⟩ | ⟨w1, hκ⟩ | ⟨w1, hκ⟩
  · subst w1
    rw [hall (by omega)]
    by_cases c : D.K p = 4 ∨ D.K p = 16
    · obtain ⟨x, x1, x2, x3, x4⟩ := hI.2.2.2.2.1 c
      have hlen : (D.kd p).length = 2 := by rw [hPF.2.2.1 (by omega)]; rcases c with q | q <;> rw [q] <;> rfl
      refine AT.kids _ _ _ _ x _ x1 (.inr (.inr (.inr (.inl ⟨rfl, c, x2, x3, ?_⟩))))
      exact AT.end7 (htl _ x4.symm) (by omega) hL hA
    · obtain ⟨x, x1, x2, x3⟩ := hI.2.2.2.2.2.1 (by omega)
      refine AT.kids _ _ _ _ x _ x1 (.inr (.inr (.inr (.inr (.inl ⟨rfl, by omega, ?_, ?_⟩)))))
      · rw [x2]
        by_cases c5 : D.K p = 5
        · rw [if_pos c5, if_pos c5]
        · rw [if_neg c5, if_neg c5]
          by_cases c6 : D.K p = 6
          · rw [if_pos c6, if_pos c6]
          · rw [if_neg c6, if_neg c6, if_neg (by omega)]
      · refine AT.end7 (htl _ x3.symm) ?_ hL hA
        by_cases c5 : D.K p = 5 ∨ D.K p = 6
        · have hlen : (D.kd p).length = 1 := by rw [hPF.2.2.1 (by omega)]; rcases c5 with q | q <;> rw [q] <;> rfl
          rw [if_pos c5]; omega
        · have hlen : (D.kd p).length = 2 := by
            rw [hPF.2.2.1 (by omega)]
            have : D.K p = 8 ∨ D.K p = 9 ∨ D.K p = 10 ∨ D.K p = 11 ∨ D.K p = 12 ∨ D.K p = 13 ∨ D.K p = 14 ∨ D.K p = 15 := by omega
            rcases this with q | q | q | q | q | q | q | q <;> rw [q] <;> rfl
          rw [if_neg c5]; omega
  · subst w1
    obtain ⟨k0, k1, k2, x, y, x0, x1, x2, x3, x4, x5, x6, x7⟩ := hI.2.2.2.2.2.2.2.1 hκ
    have et : (D.kd p).take (wkN D 2 p) = [k0] := by rw [x0]; unfold wkN; rw [if_pos (.inl rfl)]; rfl
    rw [et]
    have l7 := CA.lt _ _ _ _ x7
    refine AT.kids _ _ _ _ x _ ⟨x, x1, rfl⟩ (.inr (.inr (.inr (.inr (.inr (.inl ⟨rfl, k0, k1, k2, dc, y, e, x0, x2, x3, x4, x7, ?_, ?_⟩))))))
    · exact AT.end7 (sl := 0) (.inl ⟨rfl, .inr ⟨by omega, x5, x6⟩⟩) rfl hL hA
    · exact AT.end7 (htl _ rfl) rfl hL hA
  · subst w1
    obtain ⟨k0, k1, x, y, x0, x1, x2, x3, x4, x5⟩ := hI.2.2.2.2.2.2.2.2.1 hκ
    have et : (D.kd p).take (wkN D 3 p) = [k0] := by rw [x0]; unfold wkN; rw [if_pos (.inr (.inl rfl))]; rfl
    rw [et]
    refine AT.kids _ _ _ _ x _ ⟨x, x1, rfl⟩ (.inr (.inr (.inr (.inr (.inr (.inr (.inl ⟨rfl, k0, k1, dc, y, x0, x2, ?_⟩)))))))
    exact AT.end7 (sl := 1) (.inr (.inl ⟨rfl, x3, x4, x5⟩)) rfl hL hA
  · subst w1
    obtain ⟨k0, k1, k2, x, y, x0, x1, x2, x3, x4, x5, x6, x7, x8, x9⟩ := hI.2.2.2.2.2.2.2.2.2 hκ
    have et : (D.kd p).take (wkN D 4 p) = [k0] := by rw [x0]; unfold wkN; rw [if_pos (.inr (.inr rfl))]; rfl
    rw [et]
    have l9 := CA.lt _ _ _ _ x9
    refine AT.kids _ _ _ _ x _ ⟨x, x1, rfl⟩ (.inr (.inr (.inr (.inr (.inr (.inr (.inr (.inl ⟨rfl, k0, k1, k2, dc, y, e, x0, x2, x3, x4, x9, ?_, ?_⟩))))))))
    · exact AT.end7 (sl := 2) (.inr (.inr ⟨rfl, by omega, x5, x6, x7, x8⟩)) rfl hL hA
    · exact AT.end7 (htl _ rfl) rfl hL hA
  · subst w1
    rw [hall (by omega)]
    obtain ⟨x, x1, x2, x3, x4, x5, x6⟩ := hI.2.2.2.1 hκ
    refine AT.kids _ _ _ _ x _ x1 (.inr (.inr (.inr (.inr (.inr (.inr (.inr (.inr (.inl ⟨rfl, x2, x3, x4, x6, ?_⟩)))))))))
    exact AT.end7 (htl _ x5.symm) (by omega) hL hA
  · subst w1
    rw [hall (by omega)]
    obtain ⟨x, x1, x2, x3⟩ := hI.2.2.2.2.2.1 (by omega)
    have hlen : (D.kd p).length = 2 := by rw [hPF.2.2.1 (by omega), hκ]; rfl
    refine AT.kids _ _ _ _ x _ x1 (.inr (.inr (.inr (.inr (.inr (.inr (.inr (.inr (.inr ⟨rfl, ?_, ?_⟩)))))))))
    · rw [x2, if_neg (by omega), if_neg (by omega), if_pos hκ]
    · exact AT.end7 (htl _ x3.symm) (by omega) hL hA
/-- its parts are planned -/
theorem J_kids (hE : ENV D m rg cd T vd W M wd pgs ev) (hB : BGI D rg cd T vd W M wd X p K i E n ty nr av st) (hM : RMm D rg cd vd N G rr wd pgs ev X K i n nr fn s st oa fil mt τ) (hC : RMc D rg cd R cs wd pgs ev X i n nr fn s st pl pg fl bk a σ) (hI : INN D rg cd R (X.ff i) (CA D rg cd R (X.ff i) dc) p a e) (hL : LVc rg R (X.ff i) p e b') (hA : AT D rg cd R cs X.ff bk K i b' (n + 1)) (hkl : K.length + 20 < 130000) (hmt : mt ≤ M0 + 3 * X.no ∧ s.cp ≤ M0 + 80001) (hw : WKK w (D.K p)) :
    JBE L xs d D rg cd T vd W M N G rr R cs wd pgs ev M0 st p (wtK K) σ τ := by
  intro v2 v3
  obtain ⟨f1, f2, f3, _⟩ := hB.1.1.1
  obtain ⟨b1, b2⟩ := hE.1.1.pb f1 f3
  have hPF := (hE.1.1.2.2 _ f1).2.2.1 p f2 f3
  have h6 : (D.kd p).length ≤ 6 := by
    by_cases c : D.K p = 3
    · obtain ⟨_, q2, q3, q4⟩ := hPF.2.2.2.1 c
      have := (hE.1.1.2.2 (D.vl p) (by omega)).1.2.2.2
      omega
    · rw [hPF.2.2.1 c]
      unfold ari
      have := hPF.1.1
      have : ∀ κ, κ ≤ 20 → [0, 0, 0, 0, 2, 1, 1, 2, 2, 2, 2, 2, 2, 2, 2, 2, 2, 1, 3, 2, 3].getD κ 0 ≤ 6 := by decide
      exact this _ (by omega)
  obtain ⟨hG, hwt⟩ := hB.kids hE hw
  obtain ⟨τ1, u1, u2, u3⟩ := plan_kids (L := L) (xs := xs) (b := 0) hM.1 hPF b1 (by omega) hw h6 hM.2.1 hM.2.2.2.1.1.1 hkl v2 v3 (d + 4)
  exact ⟨σ, τ1, u1, frW.refl, u3.sub rfl rfl, .inl ⟨CGo.refl, _, hwt, X, _, i, E, n, ty, nr, av, n, (D.sl p).length, fn, s, oa, fil, mt, pl, pg, fl, bk, a, hG, ⟨hM.1.fr u3 rfl rfl rfl, u2, hM.2.2.1.fr u3 rfl rfl rfl rfl rfl rfl, hM.2.2.2.1.any (X' := X) (hM.2.2.2.1.1.fr u3 rfl rfl rfl) u3 rfl rfl (by rw [u3.2 130 rfl]; exact hM.h130) rfl rfl rfl rfl (fun _ h => h), by rw [u3.2 122 rfl]; exact hM.2.2.2.2⟩, hC, AT.plan hPF hI hw hL hA, hmt, rfl⟩⟩
end JKIDS
