/-! RUNS, BOTH: a part begins, the whole of it -/
section JBEGIN
variable {L : Nat} {xs : Nat → Int32} {σ σ' σ1 τ τ' τ1 : tvS} {D : pgD} {m : Nat} {rg : rgD} {cd : cdD} {T : tsD} {vd W : Nat → Nat} {M wd pgs ev N : Nat} {G : tG} {rr : Nat → Nat} {R : Nat → Int32} {cs : Nat} {X X' X0 : dyD} {K K' : List (Nat × Nat × Nat)} {i : Nat} {E E' E0 : Nat → trE} {n n' : Nat} {ty ty' : Nat → trE} {nr nr' nr0 : Nat} {av av' av0 : Nat → Prop} {Lv dd dd' st w p b a κ q c j k e b' dc f : Nat} {fn fn' : Nat → Nat × Nat} {s s' : cSt} {oa : Nat → Nat} {fil mt : Nat} {pl : Nat → Nat} {pg : Nat → List Nat} {fl : List Nat} {bk ff : Nat → Nat} {d M0 B no : Nat} {x : obD} {t : trE} {sv : Nat → vaL}
theorem J_inner (hE : ENV D m rg cd T vd W M wd pgs ev) (hB : BGI D rg cd T vd W M wd X p K i E n ty nr av st) (hM : RMm D rg cd vd N G rr wd pgs ev X K i n nr fn s st oa fil mt τ) (hC : RMc D rg cd R cs wd pgs ev X i n nr fn s st pl pg fl bk a σ) (hI : INN D rg cd R (X.ff i) (CA D rg cd R (X.ff i) dc) p a e) (hL : LVc rg R (X.ff i) p e b') (hA : AT D rg cd R cs X.ff bk K i b' (n + 1)) (hkl : K.length + 20 < 130000) (hmt : mt ≤ M0 + 3 * X.no ∧ s.cp ≤ M0 + 80001) (hM0 : M0 ≤ 2000000000) :
    JBE L xs d D rg cd T vd W M N G rr R cs wd pgs ev M0 st p (wtK K) σ τ := by
  obtain ⟨f1, f2, f3, _⟩ := hB.1.1.1
  have h20 := ((hE.1.1.2.2 _ f1).2.2.1 p f2 f3).1.1
  by_cases c1 : D.K p ≤ 2
  · exact J_leaf hE hB hM hC hI hL hA hkl hmt c1
  · by_cases c2 : D.K p = 17
    · exact J_fn hE hB hM hC hI hL hA hkl hmt hM0 c2
    · obtain ⟨w, hw⟩ : ∃ w, WKK w (D.K p) := by
        by_cases c3 : D.K p = 3
        · exact ⟨5, .inr (.inr (.inr (.inr (.inl ⟨rfl, c3⟩))))⟩
        · by_cases c4 : D.K p = 7
          · exact ⟨6, .inr (.inr (.inr (.inr (.inr ⟨rfl, c4⟩))))⟩
          · by_cases c5 : D.K p = 18
            · exact ⟨2, .inr (.inl ⟨rfl, c5⟩)⟩
            · by_cases c6 : D.K p = 19
              · exact ⟨3, .inr (.inr (.inl ⟨rfl, c6⟩))⟩
              · by_cases c7 : D.K p = 20
                · exact ⟨4, .inr (.inr (.inr (.inl ⟨rfl, c7⟩)))⟩
                · exact ⟨1, .inl ⟨rfl, by omega⟩⟩
      exact J_kids hE hB hM hC hI hL hA hkl hmt hw
theorem AT.beg (h : AT D rg cd R cs X.ff bk ((0, p, b) :: K) i a n) : ∃ d b', CA D rg cd R (X.ff i) d p a b' ∧ AT D rg cd R cs X.ff bk K i b' (n + 1) := by
  rcases h with ⟨_, h⟩ | ⟨q, _⟩ | ⟨q, _⟩ | ⟨q, _⟩ | ⟨q, _⟩ | ⟨q, _⟩ | ⟨q, _⟩ | ⟨q, _⟩ | ⟨q, _⟩ | ⟨q, _⟩
  · exact h
  all_goals omega
theorem J_begin (hE : ENV D m rg cd T vd W M wd pgs ev) (hG : RGI D rg cd T vd W M wd X ((0, p, b) :: K) i E n ty nr av Lv dd st) (hM : RMm D rg cd vd N G rr wd pgs ev X ((0, p, b) :: K) i n nr fn s st oa fil mt τ) (hC : RMc D rg cd R cs wd pgs ev X i n nr fn s st pl pg fl bk a σ) (hA : AT D rg cd R cs X.ff bk ((0, p, b) :: K) i a n) (hmt : mt ≤ M0 + 3 * X.no ∧ s.cp ≤ M0 + 80001) (hM0 : M0 ≤ 2000000000) (hst : st < 30000) :
    R a = 0 ∧ a < cs ∧ ∃ σ' τ' : tvS, rn L xs (d + 6) 418 0 [.ref 123, .int (i32 (p : Int)), jv, jv] [] (wr (wr τ 123 123 (i32 ((st + 1 : Nat) : Int))) 123 135 (i32 (K.length : Int))) = some (.inl none, τ') ∧ frW RCr σ σ' ∧ frM RAr RFl τ τ' ∧ ((CGo L xs d (wr (wr σ 117 8 (i32 ((a + 1 : Nat) : Int))) 117 6 (i32 ((st + 1 : Nat) : Int))) σ' ∧ ∃ μ', μ' ≤ wtK K + 4 ∧ RUN D rg cd T vd W M N G rr R cs wd pgs ev M0 (st + 1) μ' σ' τ') ∨ (CEn L xs d (wr (wr σ 117 8 (i32 ((a + 1 : Nat) : Int))) 117 6 (i32 ((st + 1 : Nat) : Int))) σ' ∧ OVR D rg cd vd N G rr R cs wd pgs ev M0 (st + 1) σ' τ')) := by
  have hkl := hG.kle hE hM.2.2.1.2.2.1
  have hkl : K.length + 1 + 20 < 130000 := hkl
  have hno := hG.no_le
  obtain ⟨dc, b', A1, A2⟩ := hA.beg
  have hltA := AT.lt _ _ _ _ A2
  have hca := CA.lt _ _ _ _ A1
  cases dc with
  | zero => exact A1.elim
  | succ dc =>
  obtain ⟨I1, I2, e, I3, I4, I5⟩ := A1
  have hL : LVc rg R (X.ff i) p e b' := I5
  have hle := hL.le
  obtain ⟨⟨f1, f2, f3⟩, E', av', hB⟩ := hG.begun hE hst
  obtain ⟨b1, b2⟩ := hE.1.1.pb f1 f3
  obtain ⟨own, hown⟩ : ∃ own, own = ownN rg (X.ff i) p := ⟨_, rfl⟩
  rw [← hown] at I2 I3 I4 hB
  have hP0 := hE.1.1.1
  have hnK := hE.1.2.2.2.2.2.2.2.2 (X.ff i) f1
  have how := fun k hk => hE.2.2.2.1 (X.ff i) k f1 hk
  have hp1 : 1 ≤ pgs := by have := hE.2.2.1.2.2.1; omega
  have hnKf : ∀ j, j ≤ i → rg.nK (X.ff j) ≤ 60 := fun j hj => hE.1.2.2.2.2.2.2.2.2 (X.ff j) (hG.2.2.2.2.1 j hj)
  have hlen : own.length ≤ 60 := by rw [hown]; have := ownN_len (rg := rg) (p := p) (f := X.ff i); omega
  refine ⟨I1, by omega, ?_⟩
  -- the component, behind the step
  obtain ⟨σs, eσ⟩ : ∃ σs, σs = wr (wr σ 117 8 (i32 ((a + 1 : Nat) : Int))) 117 6 (i32 ((st + 1 : Nat) : Int)) := ⟨_, rfl⟩
  rw [← eσ]
  have ws : frW [117] σ σs := by rw [eσ]; exact (frW_wr rfl).trans (frW_wr rfl)
  have qs : ∀ z, z ≠ 8 → z ≠ 6 → rd σs 117 z = rd σ 117 z := fun z hz hz' => by rw [eσ, wr_nei hz', wr_nei hz]
  have hCs : RMc D rg cd R cs wd pgs ev X i n nr fn s (st + 1) pl pg fl bk (a + 1) σs := by
    obtain ⟨h1, h2, h3, h4, h5, h6⟩ := hC
    refine ⟨h1.fr ws rfl, h2.fr ws rfl, h3.fr (fun q hq => qs q (by omega) (by omega)) (fun j hj q => ws.1 j (by rcases hj with e | e | e | e | e <;> rw [e] <;> rfl) q), ?_, by rw [eσ, wr_nei (by decide), wr_self], by rw [← h6]; funext q; exact ws.1 95 rfl q⟩
    obtain ⟨y1, y2, y3, y4, y5, y6, y7⟩ := h4
    exact ⟨fun r hr => by rw [ws.1 108 rfl, ws.1 109 rfl]; exact y1 r hr, by rw [ws.1 103 rfl]; exact y2, y3, by rw [ws.1 103 rfl]; exact y4, by rw [qs 5 (by decide) (by decide)]; exact y5, by rw [eσ, wr_self], by rw [qs 7 (by decide) (by decide)]; exact y7⟩
  -- the model, behind the step
  obtain ⟨τs, eτ⟩ : ∃ τs, τs = wr (wr τ 123 123 (i32 ((st + 1 : Nat) : Int))) 123 135 (i32 (K.length : Int)) := ⟨_, rfl⟩
  rw [← eτ]
  have wt : frM [] [123, 135] τ τs := by rw [eτ]; exact (frM_w rfl).trans (frM_w rfl)
  have hSs : MSt n X.sv τs := hM.2.2.2.1.1.fr wt rfl rfl rfl
  have hOs : MOb X n oa fil τs := hM.2.2.2.1.2.1.fr wt ⟨rfl, rfl, rfl, rfl, rfl, rfl, rfl, rfl, rfl⟩ ⟨rfl, rfl⟩
  have hFs : MFr X i τs := hM.2.2.1.fr wt rfl rfl rfl rfl rfl rfl
  have hRs : RSm D rg cd vd N G rr τs := hM.1.fr wt rfl rfl rfl
  have hPs : MPu fn s (st + 1) X.B X.ser nr τs := by
    obtain ⟨k0, k1, k2, k3, k4, k5, k6, k7, k8⟩ := hM.2.2.2.1.2.2.1
    exact ⟨k0.fr wt rfl rfl rfl rfl rfl rfl rfl, by rw [wt.2 122 rfl]; exact k1, by rw [eτ, wr_nei (by decide), wr_self], by rw [wt.2 125 rfl]; exact k3, by rw [wt.2 126 rfl]; exact k4, by rw [wt.2 127 rfl]; exact k5, by rw [wt.2 128 rfl]; exact k6, ⟨by rw [wt.2 129 rfl]; exact k7.1, k7.2⟩, by rw [wt.2 130 rfl]; exact k8⟩
  have hks : MMk mt X.no τs := hM.2.2.2.1.2.2.2.1.fr wt rfl rfl
  have hCt : MCt K τs := ⟨by rw [eτ, wr_self], MCl.fr K hM.2.1.2.2.2.2 (fun j _ => ⟨wt.1.1 209 rfl j, wt.1.1 210 rfl j, wt.1.1 211 rfl j⟩)⟩
  have hi := hM.2.2.1.2.2.1
  have hB5 := hG.2.2.2.2.2.1
  have hnr2 : nr ≤ 2000 := hPs.1.2.1
  have hhead : rn L xs (d + 6) 418 0 [.ref 123, .int (i32 (p : Int)), jv, jv] [] τs = rn L xs (d + 6) 418 12 [.ref 123, .int (i32 (p : Int)), .int (i32 (X.ff i : Int)), .int (i32 ((0 + 1 : Nat) : Int))] [] τs := by
    rw [e418_0, hFs.1, c_in (by omega) (by omega) (by omega), i32_ixn (by omega), (hFs.2.2.2 i (Nat.le_refl _)).1]; rfl
  have hMs := regs_m (L := L) (xs := xs) (Xa := X) (fn0 := fn) (s0 := s) (nr0 := nr) (st := st + 1) (i := i) (p := p) (f := X.ff i) hRs f1 hP0.1 hnK (by omega) how (by omega) (d + 3) (rg.nK (X.ff i)) 0 τs (by omega) frM.refl hnr2 hFs hPs
  rw [← hown] at hMs
  have hCr := regs_c (L := L) (xs := xs) (d := d) (f := X.ff i) hp1 own (a + 1) X nr fn s pg σs (fun k hk => by rw [hown] at hk; have := ownN_mem.mp hk; exact ⟨this.1, this.2.1⟩) (fun j hj => by
    have := I2 j hj
    rw [show a + 1 + 1 + 2 * j = a + 2 + 2 * j by omega]
    exact this) (by omega) hCs (fun o ho => (hG.rco ho).2.2.1) rfl hnKf
  rcases hMs with ⟨c1, τ1, v2, v3, z1, z2, z3, z4⟩ | ⟨c1, τ1, τ', z1, z2, z3, z4⟩
  · rcases hCr with ⟨_, σ1, pg', y1, y2, y3⟩ | ⟨c2, _⟩
    · obtain ⟨X1, hX1⟩ : ∃ X1, X1 = mkL X i nr own := ⟨_, rfl⟩
      obtain ⟨B1, B2, B3, B4, B5, B6⟩ := mkL_B (i := i) own X nr
      rw [← hX1] at B1 B2 B3 B4 B5 B6 hB z2 z3 y2
      have eff : X1.ff = X.ff := by funext j; unfold dyD.ff; rw [B5]
      have hM1 : RMm D rg cd vd N G rr wd pgs ev X1 K i n (nr + own.length) (mkF fn (X.ff i) nr own) (mkS s nr own) (st + 1) oa fil mt τ1 := by
        refine ⟨hRs.fr z4 rfl rfl rfl, hCt.fr z4 rfl rfl rfl rfl, z2, ⟨by rw [B2]; exact hSs.fr z4 rfl rfl rfl, (hOs.fr z4 ⟨rfl, rfl, rfl, rfl, rfl, rfl, rfl, rfl, rfl⟩ ⟨rfl, rfl⟩).same B2 B3 B4, z3, by rw [B4]; exact hks.fr z4 rfl rfl, by rw [B4]; exact hM.2.2.2.1.2.2.2.2.1.mk own, ?_, ?_, ?_, ?_⟩, ?_⟩
        · have : (mkS s nr own).cp = s.cp := congrArg (fun q => q.2.1) (mkS_2 own s nr)
          rw [this]; exact hM.2.2.2.1.2.2.2.2.2.1
        · rw [z4.2 119 rfl, wt.2 119 rfl]; exact hM.2.2.2.1.2.2.2.2.2.2.1
        · rw [z4.2 120 rfl, wt.2 120 rfl]; exact hM.2.2.2.1.2.2.2.2.2.2.2.1
        · rw [z4.2 121 rfl, wt.2 121 rfl]; exact hM.2.2.2.1.2.2.2.2.2.2.2.2
        · rw [z4.2 122 rfl, wt.2 122 rfl]; exact hM.2.2.2.2
      have hJ := J_inner (L := L) (xs := xs) (d := d) (M0 := M0) (dc := dc) (e := e) (b' := b') hE hB hM1 y2 (by rw [eff]; exact I3) (by rw [eff]; exact hL) (by rw [eff]; exact A2) (by omega) ⟨by rw [B4]; exact hmt.1, by rw [show (mkS s nr own).cp = s.cp from congrArg (fun q => q.2.1) (mkS_2 own s nr)]; exact hmt.2⟩ hM0
      obtain ⟨σ', τ', q1, q2, q3, q4⟩ := hJ v2 v3
      refine ⟨σ', τ', by rw [hhead, z1]; exact q1, (ws.sub rfl).trans (y3.trans q2), (wt.sub rfl rfl).trans ((z4.sub rfl rfl).trans q3), ?_⟩
      rcases q4 with ⟨q5, q6⟩ | ⟨q5, q6⟩
      · exact .inl ⟨y1.trans q5, q6⟩
      · exact .inr ⟨y1.en q5, q6⟩
    · omega
  · rcases hCr with ⟨c2, _⟩ | ⟨_, σ', y1, y2, y3, y4, y5⟩
    · omega
    · obtain ⟨g1, g2⟩ := z4.over (s := s) (B := X.B + (2000 - nr)) (no := X.no) (mt := mt) (st := st + 1) z3 rfl rfl z2 (by rw [z3.2 124 rfl]; exact hOs.1) (by rw [z3.2 162 rfl]; exact hks.1)
      exact ⟨σ', τ', by rw [hhead]; exact z1, (ws.sub rfl).trans y3, (wt.sub rfl rfl).trans g2, .inr ⟨y1, 5, s, X.B + (2000 - nr), X.no, mt, by omega, y2, y4, y5, g1, hRs.men z3 rfl rfl rfl z4, by omega⟩⟩
end JBEGIN
