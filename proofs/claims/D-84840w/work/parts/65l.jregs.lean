/-! RUNS, BOTH: a part begins, its regions are made -/
/-- the ghost, when the regions of a part are made -/
def BGI (D : pgD) (rg : rgD) (cd : cdD) (T : tsD) (vd W : Nat → Nat) (M wd : Nat) (X : dyD) (p : Nat) (K : List (Nat × Nat × Nat)) (i : Nat) (E : Nat → trE) (n : Nat) (ty : Nat → trE) (nr : Nat) (av : Nat → Prop) (st : Nat) : Prop :=
  (PRT D rg cd T vd X i E ty nr av n (D.sl p).length p p ∧ n = X.bs i + cd.hg p ∧ ∀ (n' : Nat) (ty' : Nat → trE), n < n' → (∀ k, k < n → ty' k = ty k) → ty' (n' - 1) = E (T.oC p) → TK D rg cd T vd X ((7, p, n) :: K) i E n' ty' nr av n (D.sl p).length) ∧
  (∀ k, k < n → VTy D rg cd T X.hp X.no X.B (X.sv k) (ty k) ∧ LVv X.hp X.no X.ser nr (X.sv k) ∧ (X.sv k).1 ≤ 2) ∧ (HOK X.hp X.no ∧ H200 D rg cd X ∧ ∀ o, 1 ≤ o → o ≤ X.no → szO (X.hp o) ≤ wd) ∧ (∀ j, j ≤ i → X.ff j ≤ D.fc) ∧ (X.no + 1 + opN K ≤ st ∧ nE K + 1 ≤ st ∧ st ≤ 30000 ∧ 1 ≤ X.B ∧ X.B ≤ 60 * st + 62 ∧ ∀ r, r < nr → X.ser r < X.B) ∧ (KGr D K 1 1 ∧ nR K = i ∧ okF D M K ∧ (lu D K + W p ≤ M ∧ SPI D W M K) ∧ EOK D K)
section JREGS
variable {L : Nat} {xs : Nat → Int32} {σ σ' σ1 τ τ' τ1 : tvS} {D : pgD} {m : Nat} {rg : rgD} {cd : cdD} {T : tsD} {vd W : Nat → Nat} {M wd pgs ev N : Nat} {G : tG} {rr : Nat → Nat} {R : Nat → Int32} {cs : Nat} {X X' X0 : dyD} {K K' : List (Nat × Nat × Nat)} {i : Nat} {E E' E0 : Nat → trE} {n n' : Nat} {ty ty' : Nat → trE} {nr nr' nr0 : Nat} {av av' av0 : Nat → Prop} {Lv dd dd' st w p b a κ q c j k : Nat} {fn fn' : Nat → Nat × Nat} {s s' : cSt} {oa : Nat → Nat} {fil mt : Nat} {pl : Nat → Nat} {pg : Nat → List Nat} {fl : List Nat} {bk : Nat → Nat} {d M0 : Nat} {x : obD} {t : trE}
/-- regions of a part are made, the component -/
theorem regs_c {f : Nat} (hp1 : 1 ≤ pgs) : ∀ (l : List Nat) (a : Nat) (X : dyD) (nr : Nat) (fn : Nat → Nat × Nat) (s : cSt) (pg : Nat → List Nat) (σ : tvS), (∀ k, k ∈ l → 1 ≤ k ∧ k ≤ rg.nK f) → (∀ j, j < l.length → R (a + 2 * j) = 1 ∧ R (a + 1 + 2 * j) = i32 ((l.getD j 0 : Nat) : Int)) → a + 2 * l.length < cs → RMc D rg cd R cs wd pgs ev X i n nr fn s st pl pg fl bk a σ → (∀ o, RCO X n o → (X.hp o).gi < nr) → X.ff i = f → (∀ j, j ≤ i → rg.nK (X.ff j) ≤ 60) →
    (nr + l.length ≤ 2000 ∧ ∃ (σ' : tvS) (pg' : Nat → List Nat), CGo L xs d σ σ' ∧ RMc D rg cd R cs wd pgs ev (mkL X i nr l) i n (nr + l.length) (mkF fn f nr l) (mkS s nr l) st pl pg' fl bk (a + 2 * l.length) σ' ∧ frW RCr σ σ') ∨
    (2000 < nr + l.length ∧ ∃ σ' : tvS, CEn L xs d σ σ' ∧ CVR st 5 s (X.B + (2000 - nr)) X.no pgs wd ev σ' ∧ frW RCr σ σ' ∧ RSc D rg cd cs σ' ∧ rd σ' 95 = R) := by
  intro l
  induction l with
  | nil =>
    intro a X nr fn s pg σ _ _ hcs h _ _ _
    have hnr := h.2.1.1.2.2.2.2.2.1
    exact .inl ⟨hnr, σ, pg, CGo.refl, h, frW.refl⟩
  | cons k l ih =>
    intro a X nr fn s pg σ hl hR hcs h hgi hf hnK
    have el : (k :: l).length = l.length + 1 := rfl
    obtain ⟨R1, R2⟩ := hR 0 (by omega)
    have R1 : R a = 1 := R1
    have R2 : R (a + 1) = i32 (k : Int) := R2
    have hnr := h.2.1.1.2.2.2.2.2.1
    have hm' := h.next
    have p1 := next_c (L := L) (xs := xs) hm'.1 hm'.2.2.2.2.1 (by omega) (d + 8)
    rw [hm'.at', R2] at p1
    have hm2 := hm'.next
    obtain ⟨σ1, e1⟩ : ∃ σ1, σ1 = wr (wr σ 117 8 (i32 ((a + 1 : Nat) : Int))) 117 8 (i32 ((a + 1 + 1 : Nat) : Int)) := ⟨_, rfl⟩
    rw [← e1] at p1 hm2
    have w1 : frW RCr σ σ1 := by rw [e1]; exact (frW_wr rfl).trans (frW_wr rfl)
    have hop0 : rd σ 95 a = i32 ((1 : Nat) : Int) := by rw [h.at', R1]; rfl
    have e19 : rd σ1 103 19 = i32 (nr : Int) := hm2.2.1.1.1.2.2.2.2.2.1
    by_cases c2 : nr = 2000
    · right
      refine ⟨by omega, ?_⟩
      obtain ⟨σ2, y1, y2, y3⟩ := cend_c (L := L) (xs := xs) (c := 5) hm2.2.1.1 hm2.2.2.2.1 hp1 (d + 8)
      have y1 : rn L xs (d + 10) 252 0 [.ref 117, .int 5] [] σ1 = some (.inl none, σ2) := y1
      have p2 : rn L xs (d + 10) 243 0 [.ref 103] [] σ1 = some (.inl (some (.int 1)), σ1) := by
        rw [e243_0, e19, show (2000 : Int32) = i32 2000 from rfl, c2_ne (by omega) (by omega) (by omega) (by omega), c_f (by omega), e243_15]; rfl
      refine ⟨σ2, cgo_end h.1 h.2.2.2.2.1 (by omega) (κ := 1) hop0 (by omega) ?_ y2.2.1.1 (by omega), ?_, w1.trans (y3.sub rfl), hm2.1.fr y3 rfl, by rw [← hm2.2.2.2.2.2]; funext z; exact y3.1 95 rfl z⟩
      · rw [show t262 1 = 124 from rfl, e262_124 (d + 10), bI_ok p1, bI_ok p2, show pv_c1 .eq (1 : Int32) = false from rfl, cond_false, bV_ok y1, e262_386]
      · rw [show 2000 - nr = 0 by omega]; exact y2
    · obtain ⟨σ2, y1, y2, y3, y4, y5, y6⟩ := rmk_c (L := L) (xs := xs) (f := f) (k := k) hm2.2.1 hm2.2.2.1 hm2.2.2.2.1 hf (hl k List.mem_cons_self) hnK (by omega) hgi (d + 7)
      have p2 : rn L xs (d + 10) 243 0 [.ref 103] [] σ1 = some (.inl (some (.int 0)), σ1) := by
        rw [e243_0, e19, show (2000 : Int32) = i32 2000 from rfl, c2_ne (by omega) (by omega) (by omega) (by omega), c_t (by omega), e243_14, e243_15]; rfl
      have e95 : rd σ2 95 = R := by rw [← hm2.2.2.2.2.2]; funext z; exact y5.1 95 rfl z
      have hM2 : RMc D rg cd R cs wd pgs ev (mkX X i k nr) i n (nr + 1) (uq fn nr (f, k)) (uq s.R nr (0, 0, 0), s.2) st pl (uq pg nr []) fl bk (a + 2) σ2 := ⟨hm2.1.fr y5 rfl, y2, y3, y4, by rw [y5.1 117 rfl]; exact hm2.2.2.2.2.1, e95⟩
      have g1 : CGo L xs d σ σ2 := cgo_on h.1 h.2.2.2.2.1 (by omega) (κ := 1) hop0 (by omega) (by rw [show t262 1 = 124 from rfl, e262_124 (d + 10), bI_ok p1, bI_ok p2, show pv_c1 .eq (0 : Int32) = true from rfl, cond_true, e262_147, bV_ok y1, e262_386]) y4.2.2.2.2.1
      have w2 : frW RCr σ σ2 := w1.trans (y5.sub rfl)
      rcases ih (a + 2) (mkX X i k nr) (nr + 1) (uq fn nr (f, k)) (uq s.R nr (0, 0, 0), s.2) (uq pg nr []) σ2 (fun k' hk' => hl k' (List.mem_cons_of_mem _ hk')) (fun j hj => by
          have := hR (j + 1) (by omega)
          rw [show a + 2 * (j + 1) = a + 2 + 2 * j by omega, show a + 1 + 2 * (j + 1) = a + 2 + 1 + 2 * j by omega] at this
          exact this) (by omega) hM2 (fun o ho => by have : (X.hp o).gi < nr := hgi o ho; show (X.hp o).gi < nr + 1; omega) hf hnK with ⟨z0, σ3, pg', z1, z2, z3⟩ | ⟨z0, σ3, z1, z2, z3, z4, z5⟩
      · left
        refine ⟨by omega, σ3, pg', g1.trans z1, ?_, w2.trans z3⟩
        rw [show nr + (k :: l).length = nr + 1 + l.length by omega, show a + 2 * (k :: l).length = a + 2 + 2 * l.length by omega]
        exact z2
      · right
        refine ⟨by omega, σ3, g1.en z1, ?_, w2.trans z3, z4, z5⟩
        have e : (mkX X i k nr).B + (2000 - (nr + 1)) = X.B + (2000 - nr) := by show X.B + 1 + (2000 - (nr + 1)) = _; omega
        rw [e] at z2
        exact z2
theorem MIDm.all (hS : SPF D m rg cd T vd) (hf : X0.ff i ≤ D.fc) (hav : ∀ k, av0 k → rg.ow (X0.ff i) (k - 1) ≠ (p : Int)) : ∀ (l pre : List Nat), ownN rg (X0.ff i) p = pre ++ l → ∀ (X : dyD) (E : Nat → trE), MIDm D rg cd T vd X0 X i p E0 E ty nr0 av0 Lv dd pre.length → ∃ E', MIDm D rg cd T vd X0 (mkL X i (nr0 + pre.length) l) i p E0 E' ty nr0 av0 Lv dd (ownN rg (X0.ff i) p).length := by
  intro l
  induction l with
  | nil => intro pre h X E hM; rw [h, List.append_nil]; exact ⟨E, hM⟩
  | cons k l ih =>
    intro pre h X E hM
    obtain ⟨E1, hM1⟩ := MIDm.next (k := k) (X' := mkX X i k (nr0 + pre.length)) hS hf hav hM (by rw [h, List.getElem?_append_right (Nat.le_refl _), Nat.sub_self]; rfl) mkX_ok
    have h2 : ownN rg (X0.ff i) p = (pre ++ [k]) ++ l := by rw [h, List.append_assoc]; rfl
    have el : (pre ++ [k]).length = pre.length + 1 := by rw [List.length_append]; rfl
    obtain ⟨E2, hM2⟩ := ih (pre ++ [k]) h2 (mkX X i k (nr0 + pre.length)) E1 (by rw [el]; exact hM1)
    refine ⟨E2, ?_⟩
    rw [el] at hM2
    exact hM2
/-- the regions of a part are made, the ghost -/
theorem RGI.begun (hE : ENV D m rg cd T vd W M wd pgs ev) (hG : RGI D rg cd T vd W M wd X ((0, p, b) :: K) i E n ty nr av Lv dd st) (hst : st < 30000) : (X.ff i ≤ D.fc ∧ D.bP (X.ff i) ≤ p ∧ p < D.bP (X.ff i + 1)) ∧ ∃ (E' : Nat → trE) (av' : Nat → Prop), BGI D rg cd T vd W M wd (mkL X i nr (ownN rg (X.ff i) p)) p K i E' n ty (nr + (ownN rg (X.ff i) p).length) av' (st + 1) := by
  have hno := hG.no_le
  obtain ⟨h1, h2, h3, h4, h5, ⟨c1, c2, c3, c4, c5, c6⟩, g1, g2, g3, g4, g5⟩ := hG
  have hP : PRT D rg cd T vd X i E ty nr av Lv dd p (p + 1) ∧ n = X.bs i + cd.hg p := by
    rcases id h1 with ⟨_, q1, q2, _⟩ | ⟨q, _⟩ | ⟨q, _⟩ | ⟨q, _⟩
    · exact ⟨q1, q2⟩
    · omega
    · omega
    · rcases q with ⟨q, _⟩ | ⟨q, _⟩ | ⟨q, _⟩ | ⟨q, _⟩ | ⟨q, _⟩ | ⟨q, _⟩ <;> omega
  obtain ⟨hP, hn⟩ := hP
  obtain ⟨⟨f1, f2, f3, f4, f5⟩, pc, ps, pp, pq⟩ := id hP
  have hst' : D.st p ≤ p := ((hE.1.1.2.2 _ f1).2.2.1 p f2 f3).1.2.2.2
  have hav : ∀ k, av k → rg.ow (X.ff i) (k - 1) ≠ (p : Int) := fun k hk e => pq k p hk e ⟨hst', by omega⟩
  obtain ⟨E', hM⟩ := MIDm.all hE.1 f1 hav (ownN rg (X.ff i) p) [] rfl X E (MIDm.start hP)
  have hM : MIDm D rg cd T vd X (mkL X i nr (ownN rg (X.ff i) p)) i p E E' ty nr av Lv dd (ownN rg (X.ff i) p).length := hM
  obtain ⟨av', t1, t2, t3, t4⟩ := T_begin hE.1 h4.1 (by omega) h1 h2 (fun k hk => (h3 k hk).2.1) hM
  obtain ⟨_, _, _, ⟨y1, y2, y3, y4, y5, y6⟩, y7, y8, _⟩ := hM
  obtain ⟨X1, hX1⟩ : ∃ X1, X1 = mkL X i nr (ownN rg (X.ff i) p) := ⟨_, rfl⟩
  rw [← hX1] at y1 y2 y3 y4 y5 y6 y7 y8 t1 t2 t4 ⊢
  have hlen := ownN_len (rg := rg) (p := p) (f := X.ff i)
  have hnK := hE.1.2.2.2.2.2.2.2.2 (X.ff i) f1
  refine ⟨⟨f1, f2, f3⟩, E', av', ⟨t1, t2, t4⟩, fun k hk => ?_, ?_, fun j hj => ?_, ?_, ?_⟩
  · obtain ⟨a1, a2, a3⟩ := h3 k hk
    rw [y1, y2, y3]
    exact ⟨a1.mono (fun _ _ _ => rfl) (Nat.le_refl _) (by omega), a2.mono (by omega) h4.1 (Nat.le_refl _) (fun _ _ _ => rfl) (by omega) y7, a3⟩
  · have : H200 D rg cd X1 := by unfold H200; rw [y2, y3]; exact h4.2.1
    rw [y2, y3]; exact ⟨h4.1, this, h4.2.2⟩
  · have : X1.ff j = X.ff j := by unfold dyD.ff; rw [y5]
    rw [this]; exact h5 j hj
  · have o1 : opN ((0, p, b) :: K) = (if 1 ≤ 0 ∧ 0 ≤ 6 then 1 else 0) + opN K := rfl
    have o2 : nE ((0, p, b) :: K) = (if 0 = 7 then 1 else 0) + nE K := rfl
    rw [if_neg (by omega)] at o1 o2
    refine ⟨by rw [y3]; omega, by omega, by omega, by omega, by omega, fun r hr => ?_⟩
    by_cases c : r < nr
    · rw [y7 r c]; have := c6 r c; omega
    · have := y8 (r - nr) (by omega)
      rw [show nr + (r - nr) = r by omega] at this
      omega
  · rcases g1 with ⟨_, q⟩ | ⟨q, _⟩ | ⟨q, _⟩ | ⟨q, _⟩
    · have o3 : nR ((0, p, b) :: K) = (if 0 = 8 then 1 else 0) + nR K := rfl
      rw [if_neg (by omega)] at o3
      exact ⟨q, by omega, g3.2, ⟨g4.1 (.inl rfl), g4.2⟩, fun e he => g5 e (List.mem_cons_of_mem _ he)⟩
    · omega
    · omega
    · omega
end JREGS
