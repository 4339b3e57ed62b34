/-! TYPING, BOTH: older functions, and the state of a function's calls -/
/-- of older functions: how many regions they are given, where these stand, the component's types and the model's -/
abbrev sgD : Type := (Nat → Nat) × (Nat → Nat) × (Nat → Nat → Nat) × (Nat → Nat → Nat)
def sgD.ng (G : sgD) : Nat → Nat := G.1
def sgD.rf (G : sgD) : Nat → Nat := G.2.1
def sgD.XC (G : sgD) : Nat → Nat → Nat := G.2.2.1
def sgD.XM (G : sgD) : Nat → Nat → Nat := G.2.2.2
/-- a type of both -/
def mat (Bc Bm : Nat) (T : tyJ) (x y : Int32) : Prop := ∃ a b : Nat, x = i32 (a : Int) ∧ y = i32 (b : Int) ∧ T.2.2 a b ∧ cuN Bc a ∧ cuN Bm b
/-- of a known kind -/
def matk (k Bc Bm : Nat) (T : tyJ) (x y : Int32) : Prop := ∃ a b : Nat, x = i32 (a : Int) ∧ y = i32 (b : Int) ∧ T.2.2 a b ∧ cuN Bc a ∧ cuN Bm b ∧ T.1.2.1.1 (T.1.2.2.1 a) = k
/-- rows of older functions stay: the component's, the model's -/
def ORc (D : pgD) (f : Nat) (σ σ' : tvS) : Prop := (∀ p, p < D.bP f → rd σ' 66 p = rd σ 66 p ∧ rd σ' 69 p = rd σ 69 p) ∧ (∀ v, v < D.tV f → rd σ' 67 v = rd σ 67 v) ∧ (∀ g, g < f → rd σ' 68 g = rd σ 68 g) ∧ (rd σ 65 9).toInt ≤ (rd σ' 65 9).toInt ∧ (∀ i : Nat, (i : Int) < (rd σ 65 9).toInt → rd σ' 70 i = rd σ 70 i) ∧ FD65 σ σ'
def ORm (D : pgD) (f : Nat) (τ τ' : tvS) : Prop := (∀ p, p < D.bP f → rd τ' 178 p = rd τ 178 p ∧ rd τ' 181 p = rd τ 181 p) ∧ (∀ v, v < D.tV f → rd τ' 179 v = rd τ 179 v) ∧ (∀ g, g < f → rd τ' 180 g = rd τ 180 g) ∧ (rd τ 123 82).toInt ≤ (rd τ' 123 82).toInt ∧ ∀ i : Nat, (i : Int) < (rd τ 123 82).toInt → rd τ' 182 i = rd τ 182 i
section ORX
variable {σ σ' τ τ' : tvS} {D : pgD} {f : Nat}
theorem ORc.refl : ORc D f σ σ := ⟨fun _ _ => ⟨rfl, rfl⟩, fun _ _ => rfl, fun _ _ => rfl, Int.le_refl _, fun _ _ => rfl, fun _ _ => rfl⟩
theorem ORm.refl : ORm D f τ τ := ⟨fun _ _ => ⟨rfl, rfl⟩, fun _ _ => rfl, fun _ _ => rfl, Int.le_refl _, fun _ _ => rfl⟩
theorem ORc.trans {a b e : tvS} (h : ORc D f a b) (g : ORc D f b e) : ORc D f a e := ⟨fun p hp => ⟨(g.1 p hp).1.trans (h.1 p hp).1, (g.1 p hp).2.trans (h.1 p hp).2⟩, fun v hv => (g.2.1 v hv).trans (h.2.1 v hv), fun v hv => (g.2.2.1 v hv).trans (h.2.2.1 v hv), Int.le_trans h.2.2.2.1 g.2.2.2.1, fun i hi => (g.2.2.2.2.1 i (Int.lt_of_lt_of_le hi h.2.2.2.1)).trans (h.2.2.2.2.1 i hi), h.2.2.2.2.2.trans g.2.2.2.2.2⟩
theorem ORm.trans {a b e : tvS} (h : ORm D f a b) (g : ORm D f b e) : ORm D f a e := ⟨fun p hp => ⟨(g.1 p hp).1.trans (h.1 p hp).1, (g.1 p hp).2.trans (h.1 p hp).2⟩, fun v hv => (g.2.1 v hv).trans (h.2.1 v hv), fun v hv => (g.2.2.1 v hv).trans (h.2.2.1 v hv), Int.le_trans h.2.2.2.1 g.2.2.2.1, fun i hi => (g.2.2.2.2 i (Int.lt_of_lt_of_le hi h.2.2.2.1)).trans (h.2.2.2.2 i hi)⟩
theorem ORc.G {S T : List Nat} (w : frG S T σ σ') (h : ([65, 66, 67, 68, 69, 70].all fun j => !inL S j) = true) : ORc D f σ σ' := by
  have e : ∀ j, inL [65, 66, 67, 68, 69, 70] j = true → ∀ i, rd σ' j i = rd σ j i := fun j hj i => w.1 j (inL_off h j hj) i
  exact ⟨fun p _ => ⟨e 66 rfl p, e 69 rfl p⟩, fun v _ => e 67 rfl v, fun g _ => e 68 rfl g, by rw [e 65 rfl]; exact Int.le_refl _, fun i _ => e 70 rfl i, fun i _ => e 65 rfl i⟩
theorem ORm.M {S F : List Nat} (w : frM S F τ τ') (h : ([178, 179, 180, 181, 182].all fun j => !inL (123 :: S) j) = true) (hF : inL F 82 = false) : ORm D f τ τ' := by
  have e : ∀ j, inL [178, 179, 180, 181, 182] j = true → ∀ i, rd τ' j i = rd τ j i := fun j hj i => w.rd (inL_off h j hj) i
  exact ⟨fun p _ => ⟨e 178 rfl p, e 181 rfl p⟩, fun v _ => e 179 rfl v, fun g _ => e 180 rfl g, by rw [w.2 82 hF]; exact Int.le_refl _, fun i _ => e 182 rfl i⟩
end ORX
section CALLS
variable {L : Nat} {xs : Nat → Int32} {σ σ' τ τ' : tvS}
variable {K1 K2 Bc Bm f : Nat} {Rc Rm : Nat → Nat → Prop} {pd pd' : List (Nat × List Nat × (Nat → Nat))} {n u a rc rc' : Nat} {T T' T1 : tyJ} {D : pgD} {G : sgD} {m : Nat}
theorem mat.ex {x y : Int32} (h : mat Bc Bm T x y) (e : exT Bc Bm T T') : mat Bc Bm T' x y := by
  obtain ⟨p, q, h1, h2, h3, h4, h5⟩ := h
  exact ⟨p, q, h1, h2, e.1 _ _ h3, h4, h5⟩
theorem matk.ex {k : Nat} {x y : Int32} (h : matk k Bc Bm T x y) (hk : k ≠ 0) (e : exT Bc Bm T T') : matk k Bc Bm T' x y := by
  obtain ⟨p, q, h1, h2, h3, h4, h5, h6⟩ := h
  exact ⟨p, q, h1, h2, e.1 _ _ h3, h4, h5, by rw [e.2.1 p (by rw [h6]; exact hk)]; exact h6⟩
theorem matk.plain {k : Nat} {x y : Int32} (h : matk k Bc Bm T x y) : mat Bc Bm T x y := by
  obtain ⟨p, q, h1, h2, h3, h4, h5, h6⟩ := h
  exact ⟨p, q, h1, h2, h3, h4, h5⟩
/-- what is known of older functions -/
def OLF (D : pgD) (G : sgD) (f Bc Bm : Nat) (Rc Rm : Nat → Nat → Prop) (T : tyJ) (σ τ : tvS) : Prop := ∀ g, g < f → SGC g (D.bk g) (D.tV g) (G.ng g) (G.rf g) (G.XC g) σ ∧ SGM g (D.bk g) (D.tV g) (G.ng g) (G.XM g) τ ∧ G.ng g ≤ 24 ∧
  ∀ i, i < D.bk g + 1 + G.ng g → T.2.2 (G.XC g i) (G.XM g i) ∧ (G.XC g i < Bc ∧ G.XM g i < Bm) ∧ Rc g (T.1.2.2.1 (G.XC g i)) ∧ Rm g (T.2.1.2.2.1 (G.XM g i))
theorem OLF.ex (h : OLF D G f Bc Bm Rc Rm T σ τ) (e : exT Bc Bm T T') : OLF D G f Bc Bm Rc Rm T' σ τ := by
  intro g hg
  obtain ⟨a1, a2, a3, a4⟩ := h g hg
  refine ⟨a1, a2, a3, fun i hi => ?_⟩
  obtain ⟨b1, ⟨b2, b3⟩, b4, b5⟩ := a4 i hi
  exact ⟨e.1 _ _ b1, ⟨b2, b3⟩, by rw [e.2.2.2.2.1 _ b2]; exact b4, by rw [e.2.2.2.2.2.1 _ b3]; exact b5⟩
/-- nothing that it speaks of is touched -/
theorem OLF.to (h : OLF D G f Bc Bm Rc Rm T σ τ) (hV : ∀ g, g < f → D.tV g + D.bk g ≤ D.tV f) (hc : ∀ j, inL [44, 45, 68, 71, 72, 73] j = true → ∀ i, rd σ' j i = rd σ j i) (h67 : ∀ v, v < D.tV f → rd σ' 67 v = rd σ 67 v) (hl : ln σ' 73 = ln σ 73) (hm : ∀ j, inL [140, 141, 180, 191, 192, 193] j = true → ∀ i, rd τ' j i = rd τ j i) (h179 : ∀ v, v < D.tV f → rd τ' 179 v = rd τ 179 v) : OLF D G f Bc Bm Rc Rm T σ' τ' := by
  intro g hg
  obtain ⟨⟨a1, a2, a3, a4, a5, a6, a7, a8, a9, a10, a11⟩, ⟨b1, b2, b3, b4, b5, b6, b7, b8, b9⟩, c3, c4⟩ := h g hg
  have hv := hV g hg
  refine ⟨⟨a1, by rw [hc 44 rfl]; exact a2, by rw [hc 45 rfl]; exact a3, a4, fun k hk => by rw [h67 _ (by omega)]; exact a5 k hk, by rw [hc 68 rfl]; exact a6, by rw [hc 72 rfl]; exact a7, by rw [hc 71 rfl]; exact a8, by rw [hl]; exact a9, by rw [hl]; exact a10, fun k hk => by rw [hc 73 rfl]; exact a11 k hk⟩,
    ⟨b1, by rw [hm 140 rfl]; exact b2, by rw [hm 141 rfl]; exact b3, b4, fun k hk => by rw [h179 _ (by omega)]; exact b5 k hk, by rw [hm 180 rfl]; exact b6, by rw [hm 191 rfl]; exact b7, b8, fun k hk => ?_⟩, c3, c4⟩
  obtain ⟨q, q1, q2, q3⟩ := b9 k hk
  exact ⟨q, q1, by rw [hm 192 rfl]; exact q2, by rw [hm 193 rfl]; exact q3⟩
/-- how many types a call's copy has -/
def pgD.cn (D : pgD) (G : sgD) (q : Nat) : Nat := D.bk (D.vl q) + 1 + G.ng (D.vl q)
/-- a call: the component's copy; the model's, or that it is not made yet -/
def CLQ (D : pgD) (G : sgD) (Bc Bm : Nat) (pd : List (Nat × List Nat × (Nat → Nat))) (T : tyJ) (Nk : Nat) (ce : Nat → Nat) (Nm : Nat) (cm : Nat → Nat) (σ τ : tvS) (q : Nat) : Prop :=
  ∃ n0 : Nat, rd σ 69 q = i32 (n0 : Int) ∧ n0 + D.cn G q ≤ Nk ∧ (∀ i, i < D.cn G q → cuN Bc (ce (n0 + i))) ∧
    ((rd τ 181 q = i32 (-1) ∧ ∃ (SL : List Nat) (im : Nat → Nat), (q, SL, im) ∈ pd ∧ ∀ i, i < D.cn G q → cov T.1.2.1 T.1.2.2.1 SL im (G.XC (D.vl q) i) (ce (n0 + i))) ∨
     (∃ n1 : Nat, rd τ 181 q = i32 (n1 : Int) ∧ n1 + D.cn G q ≤ Nm ∧ ∀ i, i < D.cn G q → T.2.2 (ce (n0 + i)) (cm (n1 + i)) ∧ cuN Bm (cm (n1 + i))))
/-- all calls of a function -/
def CAL (D : pgD) (G : sgD) (f Bc Bm rl : Nat) (pd : List (Nat × List Nat × (Nat → Nat))) (rc : Nat) (T : tyJ) (Nk : Nat) (ce : Nat → Nat) (Nm : Nat) (cm : Nat → Nat) (σ τ : tvS) : Prop :=
  KP Nk ce σ ∧ ln σ 70 ≤ 32768 ∧ KM Nm cm τ ∧ Nm + 30 * rc ≤ 60000 ∧ rl + pd.length ≤ rc ∧ ∀ q, D.bP f ≤ q → q < D.bP (f + 1) → D.K q = 3 → D.vl q < f → CLQ D G Bc Bm pd T Nk ce Nm cm σ τ q
theorem cov.ex {SL : List Nat} {im : Nat → Nat} {x v : Nat} (h : cov T.1.2.1 T.1.2.2.1 SL im x v) (hx : x < Bc) (hr : T.1.2.2.1 x < Bc) (e : exT Bc Bm T T') : cov T'.1.2.1 T'.1.2.2.1 SL im x v := by
  have e1 := e.2.2.2.2.1 x hx
  have e2 := e.2.2.2.2.2.2.1 _ hr
  unfold cov at h ⊢
  rw [e1, e2]
  exact h
theorem CAL.ex {rl Nk Nm : Nat} {ce cm : Nat → Nat} (h : CAL D G f Bc Bm rl pd rc T Nk ce Nm cm σ τ) (hO : OLF D G f Bc Bm Rc Rm T σ τ) (hB : ∀ x, x < Bc → T.1.2.2.1 x < Bc) (e : exT Bc Bm T T') : CAL D G f Bc Bm rl pd rc T' Nk ce Nm cm σ τ := by
  obtain ⟨a1, a2, a3, a4, a5, a6⟩ := h
  refine ⟨a1, a2, a3, a4, a5, fun q h1 h2 h3 h4 => ?_⟩
  obtain ⟨n0, b1, b2, b3, b4⟩ := a6 q h1 h2 h3 h4
  refine ⟨n0, b1, b2, b3, ?_⟩
  rcases b4 with ⟨c1, SL, im, c2, c3⟩ | ⟨n1, c1, c2, c3⟩
  · refine .inl ⟨c1, SL, im, c2, fun i hi => ?_⟩
    have hx := ((hO _ h4).2.2.2 i hi).2.1.1
    exact (c3 i hi).ex hx (hB _ hx) e
  · exact .inr ⟨n1, c1, c2, fun i hi => ⟨e.1 _ _ (c3 i hi).1, (c3 i hi).2⟩⟩
theorem CAL.to {rl Nk Nm : Nat} {ce cm : Nat → Nat} (h : CAL D G f Bc Bm rl pd rc T Nk ce Nm cm σ τ) (h65 : rd σ' 65 9 = rd σ 65 9) (h69 : ∀ i, rd σ' 69 i = rd σ 69 i) (h70 : ∀ i, rd σ' 70 i = rd σ 70 i) (hl : ln σ' 70 = ln σ 70) (h82 : rd τ' 123 82 = rd τ 123 82) (h181 : ∀ i, rd τ' 181 i = rd τ 181 i) (h182 : ∀ i, rd τ' 182 i = rd τ 182 i) : CAL D G f Bc Bm rl pd rc T Nk ce Nm cm σ' τ' := by
  obtain ⟨⟨k1, k2, k3⟩, a2, ⟨m1, m2, m3⟩, a4, a5, a6⟩ := h
  refine ⟨⟨h65.trans k1, by rw [hl]; exact k2, fun i hi => (h70 i).trans (k3 i hi)⟩, by rw [hl]; exact a2, ⟨h82.trans m1, m2, fun i hi => (h182 i).trans (m3 i hi)⟩, a4, a5, fun q h1 h2 h3 h4 => ?_⟩
  have := a6 q h1 h2 h3 h4
  unfold CLQ at this ⊢
  rw [h69, h181]
  exact this
/-- one of the pending comes to the front -/
theorem TJ.front {l1 l2 : List (Nat × List Nat × (Nat → Nat))} {e : Nat × List Nat × (Nat → Nat)} (h : TJ K1 K2 Bc Bm f Rc Rm (l1 ++ e :: l2) n u a rc T σ τ) : TJ K1 K2 Bc Bm f Rc Rm (e :: (l1 ++ l2)) n u a rc T σ τ := by
  obtain ⟨h1, h2, h3, ⟨p1, p2⟩, h5⟩ := h
  refine ⟨h1, h2, h3, ⟨fun q hq => p1 q ?_, ?_⟩, h5⟩
  · rcases List.mem_cons.mp hq with k | k
    · rw [k]; exact List.mem_append_right _ List.mem_cons_self
    · rcases List.mem_append.mp k with k | k
      · exact List.mem_append_left _ k
      · exact List.mem_append_right _ (List.mem_cons_of_mem _ k)
  · rw [List.pairwise_append] at p2
    obtain ⟨q1, q2, q3⟩ := p2
    rw [List.pairwise_cons] at q2
    rw [List.pairwise_cons, List.pairwise_append]
    refine ⟨fun q hq => ?_, q1, q2.2, fun x hx y hy => q3 x hx y (List.mem_cons_of_mem _ hy)⟩
    rcases List.mem_append.mp hq with k | k
    · intro t t' ht ht' ee
      exact q3 q k e List.mem_cons_self t' t ht' ht ee.symm
    · exact q2.1 q k
/-- the model's copy of a call, made now or found -/
theorem callget {rl Nk Nm q : Nat} {ce cm : Nat → Nat} (hT : TJ K1 K2 Bc Bm f Rc Rm pd n u a rc T σ τ) (hF : PGF D m) (hf : f ≤ D.fc) (hR : PGR D σ τ) (hO : OLF D G f Bc Bm Rc Rm T σ τ) (hC : CAL D G f Bc Bm rl pd rc T Nk ce Nm cm σ τ) (h1 : D.bP f ≤ q) (h2 : q < D.bP (f + 1)) (hq : q < 4001) (hq2 : q < D.bP (D.fc + 1)) (h3 : D.K q = 3) (h4 : D.vl q < f) (d : Nat) (v2 v3 : Value) :
    ∃ (n0 n1 : Nat) (t1 : tvS) (T1 : tyJ) (pd1 : List (Nat × List Nat × (Nat → Nat))) (rc1 Nm1 : Nat) (cm1 : Nat → Nat), rn L xs (d + 6) 335 0 [.ref 123, .int (i32 (q : Int)), v2, v3] [] τ = some (.inl (some (.int (i32 (n1 : Int)))), t1) ∧ TJ K1 K2 Bc Bm f Rc Rm pd1 n u a rc1 T1 σ t1 ∧ exT Bc Bm T T1 ∧ CAL D G f Bc Bm rl pd1 rc1 T1 Nk ce Nm1 cm1 σ t1 ∧ rd σ 69 q = i32 (n0 : Int) ∧ n0 + D.cn G q ≤ Nk ∧ (n1 + D.cn G q ≤ Nm1 ∧ rd t1 181 q = i32 (n1 : Int) ∧ ∀ p, p ≠ q → rd t1 181 p = rd τ 181 p) ∧
      (∀ i, i < D.cn G q → T1.2.2 (ce (n0 + i)) (cm1 (n1 + i)) ∧ cuN Bc (ce (n0 + i)) ∧ cuN Bm (cm1 (n1 + i))) ∧ frM (181 :: FCF) [63, 72, 73, 82, 84] τ t1 ∧ T1.1 = T.1 ∧ ORm D f τ t1 := by
  obtain ⟨a1, a2, a3, a4, a5, a6⟩ := hC
  obtain ⟨n0, b1, b2, b3, b4⟩ := a6 q h1 h2 h3 h4
  obtain ⟨o1, o2, o3, o4⟩ := hO _ h4
  have hkk : D.bk (D.vl q) ≤ 5 := (hF.2.2 _ (by omega)).1.2.2.2
  have hcn : D.cn G q = D.bk (D.vl q) + 1 + G.ng (D.vl q) := rfl
  rcases b4 with ⟨c1, SL, im, c2, c3⟩ | ⟨n1, c1, c2, c3⟩
  · obtain ⟨l1, l2, el⟩ := List.append_of_mem c2
    subst el
    have hlen : (l1 ++ (q, SL, im) :: l2).length = (l1 ++ l2).length + 1 := by
      rw [List.length_append, List.length_append, List.length_cons]; omega
    obtain ⟨rc', rfl⟩ : ∃ rc', rc = rc' + 1 := ⟨rc - 1, by omega⟩
    have w157 := (((hR.2 q hq2).2.2.2.2.1 (by omega)).2)
    obtain ⟨t1, T1, cm1, k1, k2, k3, k4, k5, k6, k7, k8, k9, k10⟩ := TJ.first (L := L) (xs := xs) (kk := D.bk (D.vl q)) (V := D.tV (D.vl q)) (ng := G.ng (D.vl q)) (n0 := Nm) (ce0 := cm) (Xc := G.XC (D.vl q)) (Xm := G.XM (D.vl q)) (E := fun i => ce (n0 + i)) hT.front h4 hkk (fun i hi => ⟨(o4 i hi).1, c3 i hi, (o4 i hi).2.2.2⟩) a3 (by omega) o2 (by omega) w157 c1 d v2 v3
    refine ⟨n0, Nm, t1, T1, l1 ++ l2, rc', Nm + D.cn G q, cm1, k1, k2, k3, ⟨a1, a2, ?_, by omega, by omega, fun p p1 p2 p3 p4 => ?_⟩, b1, b2, ⟨Nat.le_refl _, k8, k9⟩, fun i hi => ⟨(k6 i hi).1, b3 i hi, (k6 i hi).2⟩, k10, k4, ⟨fun p hp => ⟨k10.rd (j := 178) rfl p, k9 p (by omega)⟩, fun v _ => k10.rd (j := 179) rfl v, fun g _ => k10.rd (j := 180) rfl g, ?_, fun i hi => ?_⟩⟩
    rotate_left 2
    · have hN := a3.2.1
      rw [a3.1, k5.1, i32_ti (by omega) (by omega), i32_ti (by omega) (by omega)]; omega
    · have hN := a3.2.1
      rw [a3.1, i32_ti (by omega) (by omega)] at hi
      rw [k5.2.2 i (by omega), k7 i (by omega)]
      exact (a3.2.2 i (by omega)).symm
    · exact k5
    · by_cases e : p = q
      · rw [e]
        exact ⟨n0, b1, b2, b3, .inr ⟨Nm, k8, Nat.le_refl _, fun i hi => k6 i hi⟩⟩
      · obtain ⟨m0, g1, g2, g3, g4⟩ := a6 p p1 p2 p3 p4
        refine ⟨m0, g1, g2, g3, ?_⟩
        rcases g4 with ⟨j1, SL', im', j2, j3⟩ | ⟨m1, j1, j2, j3⟩
        · refine .inl ⟨(k9 p e).trans j1, SL', im', ?_, fun i hi => by rw [k4]; exact j3 i hi⟩
          rcases List.mem_append.mp j2 with j | j
          · exact List.mem_append_left _ j
          · rcases List.mem_cons.mp j with j | j
            · exact absurd (congrArg Prod.fst j) e
            · exact List.mem_append_right _ j
        · refine .inr ⟨m1, (k9 p e).trans j1, by omega, fun i hi => ?_⟩
          rw [k7 (m1 + i) (by omega)]
          exact ⟨k3.1 _ _ (j3 i hi).1, (j3 i hi).2⟩
  · refine ⟨n0, n1, τ, T, pd, rc, Nm, cm, first_done (L := L) (xs := xs) (by omega) c1 (by have := a3.2.1; omega) (d + 5) v2 v3, hT, exT.refl, ⟨a1, a2, a3, a4, a5, a6⟩, b1, b2, ⟨c2, c1, fun _ _ => rfl⟩, fun i hi => ⟨(c3 i hi).1, b3 i hi, (c3 i hi).2⟩, frM.refl, rfl, ORm.refl⟩
end CALLS
