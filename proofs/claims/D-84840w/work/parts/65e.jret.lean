/-! RUNS, BOTH: the way back from a call -/
section JRET
variable {L : Nat} {xs : Nat → Int32} {σ σ' σ1 τ τ' : tvS} {D : pgD} {m : Nat} {rg : rgD} {cd : cdD} {T : tsD} {vd W : Nat → Nat} {M wd pgs ev N : Nat} {G : tG} {rr : Nat → Nat} {R : Nat → Int32} {cs : Nat} {X X' : dyD} {K K' : List (Nat × Nat × Nat)} {i : Nat} {E : Nat → trE} {n n' : Nat} {ty : Nat → trE} {nr nr' : Nat} {av : Nat → Prop} {Lv dd st w p b a κ q : Nat} {fn fn' : Nat → Nat × Nat} {s s' : cSt} {oa : Nat → Nat} {fil mt : Nat} {pl : Nat → Nat} {pg : Nat → List Nat} {fl : List Nat} {bk : Nat → Nat} {d M0 : Nat}
/-- the stack is other, or where variables and regions are told -/
theorem MSk.any {S F : List Nat} (h : MSk fn s X n nr st oa fil mt pgs wd ev τ) (hS : MSt n' X'.sv τ') (w : frM S F τ τ') (hs : (S.all fun k => inL [169, 207, 208, 209, 210, 211, 212, 213, 214, 215] k) = true) (hf : (F.all fun k => inL [130, 131, 132, 135, 139, 167, 168] k) = true) (h130 : rd τ' 123 130 = 0) (e1 : X'.hp = X.hp) (e2 : X'.no = X.no) (e3 : X'.B = X.B) (e4 : X'.ser = X.ser) (hR : ∀ o, RCO X' n' o → RCO X n o) : MSk fn s X' n' nr st oa fil mt pgs wd ev τ' := by
  obtain ⟨h1, h2, ⟨h3, h3'⟩, h4, h5, h6, h7, h8, h9⟩ := h
  have w' : frM [169, 207, 208, 209, 210, 211, 212, 213, 214, 215] [130, 131, 132, 135, 139, 167, 168] τ τ' := w.sub hs hf
  have hO := h2.fr w' ⟨rfl, rfl, rfl, rfl, rfl, rfl, rfl, rfl, rfl⟩ ⟨rfl, rfl⟩
  obtain ⟨a, b, c, d, e, g⟩ := hO
  obtain ⟨k1, k2, k3, k4, k5, k6, k7, k8⟩ := h3'
  refine ⟨hS, ⟨by rw [e2]; exact a, b, c, by rw [e1, e2]; exact d, fun o ho => by rw [e1]; exact e o (hR o ho), fun o o' ho ho' hl => by rw [e1]; exact g o o' (hR o ho) (hR o' ho') hl⟩, ⟨by rw [e4]; exact h3.fr w' rfl rfl rfl rfl rfl rfl rfl, ?_⟩, by rw [e2]; exact h4.fr w' rfl rfl, by rw [e2]; exact h5, h6, by rw [w'.2 119 rfl]; exact h7, by rw [w'.2 120 rfl]; exact h8, by rw [w'.2 121 rfl]; exact h9⟩
  rw [e3]
  exact ⟨by rw [w'.2 122 rfl]; exact k1, by rw [w'.2 123 rfl]; exact k2, by rw [w'.2 125 rfl]; exact k3, by rw [w'.2 126 rfl]; exact k4, by rw [w'.2 127 rfl]; exact k5, by rw [w'.2 128 rfl]; exact k6, ⟨by rw [w'.2 129 rfl]; exact k7.1, k7.2⟩, h130⟩
/-- the ghost, when a call comes back -/
theorem RGI.ret (h : RGI D rg cd T vd W M wd X ((8, q, b) :: K) i E n ty nr av Lv dd st) : ∃ (i0 p' : Nat) (K' : List (Nat × Nat × Nat)) (E0 : Nat → trE) (av0 : Nat → Prop) (L0 dd0 : Nat), i = i0 + 1 ∧ K = (7, p', X.bs i) :: K' ∧ RGI D rg cd T vd W M wd X K i0 E0 n ty nr av0 L0 dd0 st := by
  obtain ⟨h1, h2, h3, h4, h5, ⟨c1, c2, c3, c4, c5, c6⟩, g1, g2, g3, g4, g5⟩ := h
  obtain ⟨i0, p', K', E0, av0, L0, dd0, t1, t2, t3, t4⟩ := T_ret h1
  refine ⟨i0, p', K', E0, av0, L0, dd0, t1, t2, t4, by omega, h3, h4, fun j hj => h5 j (by omega), ?_, ?_⟩
  · have o1 : opN ((8, q, b) :: K) = (if 1 ≤ 8 ∧ 8 ≤ 6 then 1 else 0) + opN K := rfl
    have o2 : nE ((8, q, b) :: K) = (if 8 = 7 then 1 else 0) + nE K := rfl
    rw [if_neg (by omega)] at o1 o2
    exact ⟨by omega, by omega, c3, c4, c5, c6⟩
  · rcases g1 with ⟨q, _⟩ | ⟨q, _⟩ | ⟨_, _, _, q⟩ | ⟨_, q, _⟩
    · omega
    · omega
    · exact ⟨KGr.up _ _ _ q, by have o3 : nR ((8, p', b) :: K) = (if 8 = 8 then 1 else 0) + nR K := rfl; rw [if_pos rfl] at o3; have o4 : nR ((8, p', b) :: K) = i := g2; omega, g3.2, g4.2, fun e he => g5 e (List.mem_cons_of_mem _ he)⟩
    · omega
theorem AT.ret (h : AT D rg cd R cs X.ff bk ((8, q, b) :: K) i a n) : a < cs ∧ R a = 26 ∧ ∃ (i0 p' b0 : Nat) (K' : List (Nat × Nat × Nat)), i = i0 + 1 ∧ K = (7, p', b0) :: K' ∧ AT D rg cd R cs X.ff bk K i0 (bk i0) (b0 + 1) := by
  rcases h with ⟨q, _⟩ | ⟨q, _⟩ | ⟨_, h⟩ | ⟨q, _⟩ | ⟨q, _⟩ | ⟨q, _⟩ | ⟨q, _⟩ | ⟨q, _⟩ | ⟨q, _⟩ | ⟨q, _⟩
  · omega
  · omega
  · exact h
  all_goals omega
/-- a call comes back, the part that called is over -/
theorem J_ret (hE : ENV D m rg cd T vd W M wd pgs ev) (hG : RGI D rg cd T vd W M wd X ((8, q, b) :: K) i E n ty nr av Lv dd st) (hM : RMm D rg cd vd N G rr wd pgs ev X ((8, q, b) :: K) i n nr fn s st oa fil mt τ) (hC : RMc D rg cd R cs wd pgs ev X i n nr fn s st pl pg fl bk a σ) (hA : AT D rg cd R cs X.ff bk ((8, q, b) :: K) i a n) (hmt : mt ≤ M0 + 3 * X.no ∧ s.cp ≤ M0 + 80001) :
    JST L xs d D rg cd T vd W M N G rr R cs wd pgs ev M0 st (wtK ((8, q, b) :: K)) σ τ := by
  have hkl := hG.kle hE hM.2.2.1.2.2.1
  have hkl : K.length + 1 + 20 < 130000 := hkl
  obtain ⟨i0, p, K', E1, av1, L1, dd1, r1, r2, hG1⟩ := hG.ret
  obtain ⟨A1, A2, i0', p', b0, K'', A3, A4, A5⟩ := hA.ret
  obtain rfl : i0 = i0' := by omega
  rw [r2] at A4
  injection A4 with A6 A7
  injection A6 with A6 A8
  injection A8 with A8 A9
  subst r1; subst r2
  rw [← A9] at A5
  obtain ⟨b1, hb1⟩ : ∃ b1, b1 = X.bs (i0 + 1) := ⟨_, rfl⟩
  rw [← hb1] at hG1 A5 hkl
  obtain ⟨X', hx⟩ : ∃ X' : dyD, X' = (uq X.sv b1 (X.sv (n - 1)), X.2) := ⟨_, rfl⟩
  obtain ⟨t1, t2, E0, av0, nr0, L0, dd0, ty', t3, hG'⟩ := hG1.ends hx
  have hfi := hG1.2.2.2.2.1 i0 (Nat.le_refl _)
  have hP0 := hE.1.1.1
  have hnK := hE.1.2.2.2.2.2.2.2.2 (X.ff i0) hfi
  have how := fun k hk => hE.2.2.2.1 (X.ff i0) k hfi hk
  have hpb : p < 6000 := by
    obtain ⟨q1, _⟩ := hE.1.1.le (D.fc + 1 - (X.ff i0 + 1)) (X.ff i0 + 1) (by omega)
    have := hP0.2.2.1
    omega
  have hRn : ∀ o, RCO X' (b1 + 1) o → RCO X n o := fun o ho => RCO.sub hx t1 ho
  -- the component: it comes back
  have hC' := hC.next
  have hv2 := fun k hk => (hG.2.2.1 k hk).2.2
  obtain ⟨σ1, y1, y2, y3, y4, y5, y6⟩ := cback_c (L := L) (xs := xs) hC'.2.1.2.1 hC'.2.2.1 (by rw [← hb1]; exact t1) (d + 7)
  rw [← hb1] at y2
  have w1 : frW [100, 101, 102, 117] σ σ1 := (frW_wr rfl).trans y6
  have q1 : ∀ z, z = 5 ∨ z = 6 ∨ z = 7 → rd σ1 117 z = rd σ 117 z := fun z hz => by rw [y5 z hz, wr_nei (by omega)]
  have c1 : CGo L xs d σ σ1 := cgo_on hC.1 hC.2.2.2.2.1 A1 (κ := 26) (by rw [hC.at', A2]; rfl) (by omega) (by rw [show t262 26 = 366 from rfl, e262_366 (d + 10), bV_ok y1, e262_386]) (by rw [q1 5 (by omega)]; exact hC.2.2.2.1.2.2.2.2.1)
  have hC1 : RMc D rg cd R cs wd pgs ev X' i0 (b1 + 1) nr fn s st pl pg fl bk (bk i0) σ1 := by
    refine ⟨hC.1.fr w1 rfl, hC.2.1.stack (X' := X') (by rw [hx]; exact y2) w1 (by rw [hx]; rfl) (by rw [hx]; rfl) hRn, y3.same (by rw [hx]; rfl) (by rw [hx]; rfl), ?_, y4, by rw [← hC.2.2.2.2.2]; funext z; exact w1.1 95 rfl z⟩
    rw [hx]
    exact hC.2.2.2.1.fr (fun z _ => w1.1 103 rfl z) q1 (fun j hj z => by rcases hj with e | e <;> rw [e] <;> exact w1.1 _ rfl z)
  -- the part's end
  have A5' : AT D rg cd R cs X'.ff bk ((7, p, b1) :: K') i0 (bk i0) (b1 + 1) := by rw [hx]; exact A5
  obtain ⟨sl, e, b', a1, a2, a3, a4⟩ := A5'.ends
  obtain rfl : sl = 0 := by omega
  have hlt := AT.lt _ _ _ _ a4
  have eX : X' = (uq X'.sv (b1 + 1 - 1 - 0) (X'.sv (b1 + 1 - 1)), X'.2) := by
    have : uq X'.sv (b1 + 1 - 1 - 0) (X'.sv (b1 + 1 - 1)) = X'.sv := by
      funext k
      by_cases c : k = b1
      · rw [c]; exact uq_self
      · exact uq_ne c
    rw [this]; rfl
  obtain ⟨σ2, z1, z2, z3⟩ := tail_go (L := L) (xs := xs) (d := d) (X' := X') hC1 a1 (by have := a3.le; omega) (by omega) eX (fun o ho => ho) (fun k hk => (hG'.2.2.1 k hk).2.2)
  have hU : pgU s nr = s.U := hC.2.1.2.2.2.2.2.1
  have hff : X'.ff i0 = X.ff i0 := by rw [hx]; rfl
  rw [hff] at a3
  obtain ⟨σ3, fl', v1, v2, v3⟩ := leave_go (L := L) (xs := xs) (d := d) z2 a3 (by omega) t3 hU (by have := ownN_len (rg := rg) (p := p) (f := X.ff i0); omega)
  -- the model: it comes back
  obtain ⟨m1, m2⟩ := hM.pop
  obtain ⟨τ0, e0⟩ : ∃ τ0, τ0 = wr τ 123 135 (i32 ((((7, p, X.bs (i0 + 1)) :: K').length : Nat) : Int)) := ⟨_, rfl⟩
  rw [← e0] at m1 m2
  obtain ⟨τ1, e1⟩ : ∃ τ1, τ1 = wr (wr τ0 123 139 (i32 (i0 : Int))) 123 131 (i32 (i0 : Int)) := ⟨_, rfl⟩
  have em : i32 ((i0 + 1 : Nat) : Int) - 1 = i32 (i0 : Int) := by rw [show (1 : Int32) = i32 1 from rfl, i32_sub]; congr 1; omega
  have w2 : frM [] [131, 139] τ0 τ1 := by rw [e1]; exact (frM_w rfl).trans (frM_w rfl)
  have hr : rn L xs (d + 6) 399 0 [.ref 123, .int (i32 ((8 : Nat) : Int)), .int (i32 (q : Int)), .int (i32 (b : Int))] [] τ0 = some (.inl none, τ1) := by
    rw [e399_0, swk_of (sw399 8 (by omega)), show t399 8 = 239 from rfl, e399_239, m1.2.2.1.1, m1.2.2.1.2.1, em, ← e1, e399_268]
  have g1 : MGo L xs d τ τ1 := mgo_on hM.2.1 hM.2.2.2.2 (by show K'.length + 1 < 130000; have : K'.length + 1 + 1 + 20 < 130000 := hkl; omega) (by omega) (by rw [← e0]; exact hr)
  have hF1 : MFr X i0 τ1 := by
    obtain ⟨f1, f2, f3, f4⟩ := m1.2.2.1
    refine ⟨by rw [e1, wr_nei (by decide), wr_self], by rw [e1, wr_self], by omega, fun j hj => ?_⟩
    obtain ⟨j1, j2, j3, j4⟩ := f4 j (by omega)
    exact ⟨by rw [w2.1.1 215 rfl]; exact j1, by rw [w2.1.1 214 rfl]; exact j2, fun e he h5 => by rw [w2.1.1 212 rfl]; exact j3 e he h5, fun k hk h2 => by rw [w2.1.1 213 rfl]; exact j4 k hk h2⟩
  have hM1 : RMm D rg cd vd N G rr wd pgs ev X ((7, p, X.bs (i0 + 1)) :: K') i0 n nr fn s st oa fil mt τ1 := ⟨m1.1.fr w2 rfl rfl rfl, m1.2.1.fr w2 rfl rfl rfl rfl, hF1, m1.2.2.2.1.any (X' := X) (m1.2.2.2.1.1.fr w2 rfl rfl rfl) w2 rfl rfl (by rw [w2.2 130 rfl]; exact m1.2.2.2.1.2.2.1.2.2.2.2.2.2.2.2) rfl rfl rfl rfl (fun _ h => h), by rw [w2.2 122 rfl]; exact m1.2.2.2.2⟩
  rw [← hb1] at hM1
  -- the part's end
  obtain ⟨n1, n2⟩ := hM1.pop
  obtain ⟨τ2, u1, u2, u3⟩ := endp_m (L := L) (xs := xs) (X' := X') n1.1 n1.2.2.1 n1.2.2.2.1 rfl hfi hP0.1 hnK hpb how t1 t3 hx jv jv (d + 4)
  have hr2 : rn L xs (d + 6) 399 0 [.ref 123, .int (i32 ((7 : Nat) : Int)), .int (i32 (p : Int)), .int (i32 (b1 : Int))] [] (wr τ1 123 135 (i32 (K'.length : Int))) = some (.inl none, τ2) := by
    rw [e399_0, swk_of (sw399 7 (by omega)), show t399 7 = 262 from rfl, e399_262, bV_ok u1, e399_268]
  have g2 : MGo L xs d τ1 τ2 := mgo_on hM1.2.1 hM1.2.2.2.2 (by have : K'.length + 1 + 1 + 20 < 130000 := hkl; omega) (by omega) hr2
  refine ⟨σ3, τ2, g1.trans g2, (w1.sub rfl).trans (z3.trans v3), (m2.sub rfl rfl).trans ((w2.sub rfl rfl).trans ((n2.sub rfl rfl).trans (u3.sub rfl rfl))), .inl ⟨c1.trans (z1.trans v1), wtK K', ?_, X', K', i0, E0, b1 + 1, ty', nr0, av0, L0, dd0, fn, lvS s nr0, oa, fil, mt, pl, pg, fl', bk, b', hG', ⟨n1.1.fr u3 rfl rfl rfl, n1.2.1.fr u3 rfl rfl rfl rfl, (n1.2.2.1.fr u3 rfl rfl rfl rfl rfl rfl).same (by rw [hx]; rfl) (by rw [hx]; rfl) (by rw [hx]; rfl), u2, by rw [u3.2 122 rfl]; exact n1.2.2.2.2⟩, v2, a4, by rw [hx]; exact hmt, rfl⟩⟩
  show _ < (if 8 = 0 then 0 else if 8 = 5 ∨ 8 = 6 then 3 else 1) + ((if 7 = 0 then 0 else if 7 = 5 ∨ 7 = 6 then 3 else 1) + wtK K')
  rw [if_neg (by omega), if_neg (by omega), if_neg (by omega), if_neg (by omega)]
  omega
end JRET
