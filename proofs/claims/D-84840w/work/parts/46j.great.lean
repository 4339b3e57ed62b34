/-! REGIONS: types that reach too much; the least place -/
section GREAT
variable {L : Nat} {xs : Nat → Int32} {σ σ' τ τ' σ0 : tvS} {D : pgD} {m f : Nat}
/-- counts and names of variables -/
def RGV (D : pgD) (m : Nat) (σ τ : tvS) : Prop := rd σ 15 38 = i32 (D.fc : Int) ∧ rd σ 15 19 = i32 (D.tV (D.fc + 1) : Int) ∧ ∀ v, v < D.tV (D.fc + 1) → ∃ k : Nat, k < m ∧ rd σ 30 v = i32 (k : Int) ∧ rd τ 146 v = i32 (k : Int)
theorem RGV.to (h : RGV D m σ τ) (h1 : ∀ i, rd σ' 15 i = rd σ 15 i) (h2 : ∀ i, rd σ' 30 i = rd σ 30 i) (h3 : ∀ i, rd τ' 146 i = rd τ 146 i) : RGV D m σ' τ' := ⟨by rw [h1]; exact h.1, by rw [h1]; exact h.2.1, fun v hv => by rw [h2, h3]; exact h.2.2 v hv⟩
theorem PRG0.rgv {K1 K2 fc : Nat} {μ : Nat → Nat} {bk bP tV bF bS : Nat → Nat} (h : PRG0 K1 K2 m μ fc bk bP tV bF bS σ τ) (hD : D.fc = fc ∧ D.bk = bk ∧ D.bP = bP ∧ D.tV = tV ∧ D.bF = bF) : RGV D m σ τ := by
  obtain ⟨hc, hT, _, _, u4, _, _, _, _, u10, _⟩ := h
  obtain ⟨V, S, C, q, cp, hLV, _, _, h4, _, _, _, hfn, hva, _⟩ := hc
  obtain ⟨e1, e2, e3, e4, e5⟩ := hD
  unfold RGV
  rw [e1, e4]
  refine ⟨hfn.2.2.2.1, u4, fun v hv => ?_⟩
  have hm := hLV.1
  have hVm := h4.2.2.1
  have hV : V = tV (fc + 1) := by
    have h1 := h4.1
    rw [u4] at h1
    have := (i32_inj (by omega) (by omega) (by omega) (by omega)).mp h1
    omega
  obtain ⟨k, k1, k2, k3, k4, _⟩ := hva v (by omega)
  exact ⟨k, k1, k3, k4⟩
/-- more than 24 boxed types are reached -/
def GRT (G : tG) (r : Nat → Nat) (h : Nat → Nat → Prop) (B : Nat → Prop) : Prop := ∃ l : List Nat, l.Nodup ∧ 24 < l.length ∧ ∀ t, t ∈ l → r t = t ∧ RQ G r h B t ∧ 2 ≤ G.1 t
noncomputable def gbN (G : tG) (r : Nat → Nat) (h : Nat → Nat → Prop) (x : Nat) : Bool := @decide (GRT G r h (fun b => b = x)) (Classical.propDecidable _)
theorem gbN_t {G : tG} {r : Nat → Nat} {h : Nat → Nat → Prop} {x : Nat} (k : GRT G r h (fun b => b = x)) : gbN G r h x = true := @decide_eq_true _ (Classical.propDecidable _) k
theorem gbN_f {G : tG} {r : Nat → Nat} {h : Nat → Nat → Prop} {x : Nat} (k : ¬ GRT G r h (fun b => b = x)) : gbN G r h x = false := @decide_eq_false _ (Classical.propDecidable _) k
theorem GRT.zz {C M : tG} {c r : Nat → Nat} {Z : Nat → Nat → Prop} {h h' : Nat → Nat → Prop} {B B' : Nat → Prop} (z : zG C c M r Z) (hc : ∀ x, c (c x) = c x) (hr : ∀ x, r (r x) = r x) (zh : ∀ x y u, Z x y → h (c x) u → C.1 (c u) ≠ 1 → ∃ v, h' (r y) v ∧ Z u v) (kh : ∀ x u, h (c x) u → C.1 (c x) ≠ 1) (kb : ∀ b, B b → ∃ b', B' b' ∧ Z b b') (g : GRT C c h B) : GRT M r h' B' := by
  obtain ⟨l, l1, l2, l3⟩ := g
  obtain ⟨z1, z2, z3, z4⟩ := id z
  have ch : ∀ t, ∃ y, t ∈ l → Z t y ∧ r y = y ∧ RQ M r h' B' y := fun t => by
    by_cases ht : t ∈ l
    · obtain ⟨k1, k2, k3⟩ := l3 t ht
      rcases RQ.zz (h' := h') (B' := B') z hc zh kh kb k2 with e | ⟨y, y1, y2⟩
      · rw [k1] at e; omega
      · exact ⟨r y, fun _ => ⟨z2 t y t (r y) y1 rfl (hr y), hr y, y2.cl (hr y).symm⟩⟩
    · exact ⟨0, fun k => absurd k ht⟩
  obtain ⟨g, hg⟩ := Classical.skolem.mp ch
  refine ⟨l.map g, ?_, by rw [List.length_map]; exact l2, fun y hy => ?_⟩
  · rw [List.nodup_iff_pairwise_ne, List.pairwise_map]
    refine List.Pairwise.imp_of_mem (fun {a b} ha hb hne e => hne ?_) l1
    have e1 := (z1 _ _ _ _ (hg a ha).1 (hg b hb).1).mpr (by rw [e])
    rw [(l3 a ha).1, (l3 b hb).1] at e1
    exact e1
  · obtain ⟨t, t1, t2⟩ := List.mem_map.mp hy
    obtain ⟨k1, k2, k3⟩ := hg t t1
    rw [← t2]
    have := z3 _ _ k1
    rw [(l3 t t1).1, k2] at this
    exact ⟨k2, k3, by have := (l3 t t1).2.2; omega⟩
/-- the lesser place -/
def wrs (b : Bool) (pl it : Int32) : Int32 := cond b (cond (pv_c2 .eq pl (i32 (-1))) it (cond (pv_c2 .ge it pl) pl it)) pl
def wfo (b : Nat → Bool) (it : Nat → Int32) : Nat → Nat → Int32 → Int32
  | 0, _, pl => pl
  | k + 1, p, pl => wfo b it k (p + 1) (wrs (b p) pl (it p))
theorem wfo_congr {b b' : Nat → Bool} {it it' : Nat → Int32} : ∀ (k p : Nat) (pl : Int32), (∀ q, p ≤ q → q < p + k → b q = b' q ∧ it q = it' q) → wfo b it k p pl = wfo b' it' k p pl := by
  intro k
  induction k with
  | zero => intro p pl _; rfl
  | succ k ih =>
    intro p pl h
    show wfo b it k (p + 1) (wrs (b p) pl (it p)) = wfo b' it' k (p + 1) (wrs (b' p) pl (it' p))
    rw [(h p (Nat.le_refl _) (by omega)).1, (h p (Nat.le_refl _) (by omega)).2]
    exact ih (p + 1) _ (fun q h1 h2 => h q (by omega) (by omega))
variable {K1 K2 N H S : Nat} {C : tG} {c : Nat → Nat} {h : Nat → Nat → Prop}
theorem worse_c {x l : Nat} (hT : CT K1 K2 N C c h H S σ) (hS : S + 2 < 2147483648) (hx : x < N) (hl : l < 3001) (pl : Int32) (d : Nat) :
    ∃ σ', rn L xs (d + 4) 177 0 [.ref 74, .int pl, .int (i32 (x : Int)), .int (i32 (l : Int)), jv] [] σ = some (.inl (some (.int (wrs (gbN C c h x) pl (rd σ 13 l)))), σ') ∧ CT K1 K2 N C c h H (S + 2) σ' ∧ frT [52, 57, 61] [61] [12, 14, 15] σ σ' := by
  obtain ⟨hl', hv, h1, h2, h3, h4, h5, h6, h7, h8⟩ := hT
  obtain ⟨s1, a1, a2, a3⟩ := begin_c (L := L) (xs := xs) h1 h2 h5 h4 hS (d + 2)
  obtain ⟨b1, b2, b3, b4⟩ := a2
  have hC0 := b1.pop (x := (0 : Int32))
  have hW0 : WK (ints []) (wr s1 50 14 0) := ⟨wr_self _ _ _ _, Nat.zero_le _, trivial⟩
  obtain ⟨s2, p1, q1, R1, w1⟩ := push_T (L := L) (xs := xs) hC0.1.2.2 hW0 (by decide) (x : Int) (d + 1)
  have hC1 := hC0.push w1 R1
  have hI := h6.1
  obtain ⟨s3, ML, y1, y2, y3, y4, y5, y6, y7⟩ := reach_loop (L := L) (xs := xs) (M := 24) (fun x _ => hI x) (fun t => RQ C c (hC hl' hv) (fun b => b = x) t) (fun t z q _ e k s => by
    rcases s with s | ⟨i, i1, i2⟩
    · exact (q.kid (by rw [e]; exact k) (by rw [e]; exact s)).cl (hI z).symm
    · exact (q.held (by rw [e]; exact ⟨i, i1, i2⟩)).cl (hI z).symm) (by decide) d _ [x] [] s2 (.int (i32 (x : Int))) (dj jv) (dj jv) (Nat.le_refl _) hC1 q1 (fun z hz => by
      rw [List.mem_singleton.mp hz]
      exact ⟨hx, (RQ.base (B := fun b => b = x) rfl).cl (hI x).symm⟩) (fun t ht => (by cases ht)) (fun _ t ht => (by cases ht)) (by show 1 ≤ _; omega)
  have w0 : frT [] [] [14] s1 (wr s1 50 14 0) := ⟨frG_wr rfl, fun i hi => wr_nei (fun e => by rw [e] at hi; cases hi)⟩
  have w13 : frT [52, 57, 61] [61] [14, 15] s1 s3 := (w0.sub rfl rfl rfl).trans ((w1.sub rfl rfl rfl).trans y7)
  have w03 : frT [52, 57, 61] [61] [12, 14, 15] σ s3 := (a3.sub rfl rfl rfl).trans (w13.sub rfl rfl rfl)
  have hML : ∀ t, t ∈ ML → c t = t := fun t ht => (y2.2.2.2.2.1 t ht).2
  have hkk : ∀ t u, hC hl' hv (c t) u → 2 ≤ C.1 (c t) := fun t u hu => by
    obtain ⟨i, i1, i2⟩ := hu
    have hne : hl' (c t) ≠ [] := fun e => by rw [e] at i1; cases i1
    by_cases q : c t < N
    · rw [h3 _ q (hI t) hne]; decide
    · exact absurd (h7 _ (by omega)) hne
  have hgb : 24 < ML.length ↔ GRT C c h (fun b => b = x) := by
    rw [h8]
    constructor
    · intro k
      exact ⟨ML, y2.2.2.2.1, k, fun t ht => ⟨hML t ht, (y4 t ht).2, (y4 t ht).1⟩⟩
    · rintro ⟨l, l1, l2, l3⟩
      apply Classical.byContradiction
      intro k
      obtain ⟨k1, k2⟩ := y5 (by omega)
      have full : RCD K1 K2 N C c hl' hv H (S + 2) (fun b => b = x) ML s3 := ⟨y2, y4, k1, fun b hb => by rw [hb]; exact k2 x List.mem_cons_self⟩
      have := nodup_len l ML l1 (fun t ht => by
        obtain ⟨t1, t2, t3⟩ := l3 t ht
        have := (full.iff hkk hI t).mpr ⟨t2, by rw [t1]; exact t3⟩
        rw [t1] at this; exact this)
      omega
  refine ⟨s3, ?_, ⟨hl', hv, y2.1.1, y2.1.2.1, h3, ⟨y2.2.1.1, fun x hx => ?_⟩, y2.1.2.2, h6, h7, h8⟩, w03⟩
  · have y1' : rn L xs (d + 3) 99 0 [.ref 50, .int (i32 (x : Int)), .int 24, jv, jv] [] s1 = some (.inl none, s3) := by
      rw [e99_0 (d + 2), bV_ok p1]; exact y1
    have p58 : rn L xs (d + 3) 58 0 [.ref 6, .int (i32 (l : Int))] [] s3 = some (.inl (some (.int (rd σ 13 l))), s3) := by
      rw [e58_0, c_in (by omega) (by omega) (by omega), i32_ixn (by omega), w03.rd (j := 13) rfl]
    have hl25 : ML.length ≤ 25 := y6 (by decide)
    rw [e177_0 (d + 3), bV_ok a1, bV_ok y1', bI_ok p58, bI_ok (e101_0 (d + 2) s3), y2.2.2.2.2.2, show (24 : Int32) = i32 24 from rfl, c2_le (by omega) (by omega) (by omega) (by omega)]
    by_cases k : 24 < ML.length
    · rw [gbN_t (hgb.mp k), decide_eq_false (by omega), cond_false]
      unfold wrs
      rw [cond_true, i32_raw]
      cases pv_c2 .eq pl (i32 (-1)) with
      | true => rw [cond_true, cond_true, e177_50, e177_56]
      | false =>
        rw [cond_false, cond_false]
        cases pv_c2 .ge (rd σ 13 l) pl with
        | true => rw [cond_true, cond_true, e177_55, e177_56]
        | false => rw [cond_false, cond_false, e177_50, e177_56]
    · rw [gbN_f (fun g => k (hgb.mpr g)), decide_eq_true (by omega), cond_true, e177_55, e177_56]
      rfl
  · obtain ⟨s, s1, s2, _⟩ := y2.2.2.1 x hx
    exact ⟨s, s1, s2⟩
theorem worse_parts (hF : PGF D m) (hf : f ≤ D.fc) (hR : PGR D σ0 τ) (hty : TYc D f N σ0) (d : Nat) : ∀ (j p S : Nat) (σ : tvS) (pl : Int32) (v4 : Value), p + j = D.bP (f + 1) → D.bP f ≤ p → S + 2 * j < 2147483648 → CT K1 K2 N C c h H S σ → frT [52, 57, 61] [61] [12, 14, 15] σ0 σ →
    ∃ (σ' : tvS) (w4 : Value), rn L xs (d + 5) 176 12 [.ref 74, .int (i32 (f : Int)), .int pl, .int (i32 (p : Int)), v4] [] σ = rn L xs (d + 5) 176 54 [.ref 74, .int (i32 (f : Int)), .int (wfo (fun q => gbN C c h (oT σ0 q)) (fun q => rd σ0 13 (D.lx q)) j p pl), .int (i32 (D.bP (f + 1) : Int)), w4] [] σ' ∧ CT K1 K2 N C c h H (S + 2 * j) σ' ∧ frT [52, 57, 61] [61] [12, 14, 15] σ0 σ' := by
  have hb4 := hF.1
  have hbl := (hF.le (D.fc + 1 - (f + 1)) (f + 1) (by omega))
  have hff := hR.1 f hf
  intro j
  induction j with
  | zero =>
    intro p S σ pl v4 e hp hS hT w
    have e : p = D.bP (f + 1) := by omega
    subst e
    refine ⟨σ, v4, ?_, hT, w⟩
    rw [e176_12 (d + 4), c_in (by omega) (by omega) (by omega), i32_ixn (by omega), w.rd (j := 47) rfl, hff.1.2.2.2.1, c2_ge (by omega) (by omega) (by omega) (by omega), c_t (by omega)]
    rfl
  | succ j ih =>
    intro p S σ pl v4 e hp hS hT w
    obtain ⟨t1, t2⟩ := hty.1 p hp (by omega)
    have hlx := ((hF.2.2 f hf).2.2.1 p hp (by omega)).1.2.1
    have e17 := (hR.2 p (by omega)).1.2.2.1
    obtain ⟨s1, a1, a2, a3⟩ := worse_c (L := L) (xs := xs) (x := oT σ0 p) (l := D.lx p) hT (by omega) t2 (by omega) pl d
    rw [w.rd (j := 13) rfl] at a1
    obtain ⟨σ', w4, z1, z2, z3⟩ := ih (p + 1) (S + 2) s1 (wrs (gbN C c h (oT σ0 p)) pl (rd σ0 13 (D.lx p))) (dj (dj v4)) (by omega) (by omega) (by omega) a2 (w.trans a3)
    refine ⟨σ', w4, ?_, by rw [show S + 2 * (j + 1) = S + 2 + 2 * j by omega]; exact z2, z3⟩
    have e153 : rn L xs (d + 4) 153 0 [.ref 65, .int (i32 (p : Int))] [] σ = some (.inl (some (.int (i32 (oT σ0 p : Int)))), σ) := by
      rw [e153_0, c_in (by omega) (by omega) (by omega), i32_ixn (by omega), w.rd (j := 66) rfl, t1]
    rw [e176_12 (d + 4), c_in (by omega) (by omega) (by omega), i32_ixn (by omega), w.rd (j := 47) rfl, hff.1.2.2.2.1, c2_ge (by omega) (by omega) (by omega) (by omega), c_f (by omega), bI_ok e153, c_in (by omega) (by omega) (by omega), i32_ixn (by omega), w.rd (j := 17) rfl, e17, bI_ok a1, i32_up]
    exact z1
theorem worse_vars (hF : PGF D m) (hf : f ≤ D.fc) (hG : RGV D m σ0 τ) (hv : ∀ v, D.tV f ≤ v → v < D.tV (f + 1) → rd σ0 67 v = i32 (vT σ0 v : Int) ∧ vT σ0 v < N) (lv : Nat → Nat) (hlv : ∀ v, v < D.tV (D.fc + 1) → rd σ0 30 v = i32 (lv v : Int) ∧ lv v < m) (d : Nat) : ∀ (j p S : Nat) (σ : tvS) (pl : Int32), p + j = D.tV (f + 1) → D.tV f ≤ p → S + 2 * j < 2147483648 → CT K1 K2 N C c h H S σ → frT [52, 57, 61] [61] [12, 14, 15] σ0 σ →
    ∃ (σ' : tvS), rn L xs (d + 5) 176 98 [.ref 74, .int (i32 (f : Int)), .int pl, .int (i32 (D.tV (f + 1) : Int)), .int (i32 (p : Int))] [] σ = rn L xs (d + 5) 176 135 [.ref 74, .int (i32 (f : Int)), .int (wfo (fun q => gbN C c h (vT σ0 q)) (fun q => rd σ0 13 (lv q)) j p pl), .int (i32 (D.tV (f + 1) : Int)), .int (i32 (D.tV (f + 1) : Int))] [] σ' ∧ CT K1 K2 N C c h H (S + 2 * j) σ' ∧ frT [52, 57, 61] [61] [12, 14, 15] σ0 σ' := by
  have hb4 := hF.1
  have hV := hF.V hf
  have htl : D.tV (f + 1) ≤ D.tV (D.fc + 1) := by
    have hle : ∀ j g, g + j = D.fc + 1 → D.tV g ≤ D.tV (D.fc + 1) := by
      intro j
      induction j with
      | zero => intro g e; rw [show g = D.fc + 1 by omega]; exact Nat.le_refl _
      | succ j ih => intro g e; exact Nat.le_trans (by have := (hF.2.2 g (by omega)).1.2.1; omega) (ih (g + 1) (by omega))
    exact hle (D.fc - f) (f + 1) (by omega)
  intro j
  induction j with
  | zero =>
    intro p S σ pl e hp hS hT w
    have e : p = D.tV (f + 1) := by omega
    subst e
    refine ⟨σ, ?_, hT, w⟩
    rw [e176_98 (d + 4), c2_ge (by omega) (by omega) (by omega) (by omega), c_t (by omega)]
    rfl
  | succ j ih =>
    intro p S σ pl e hp hS hT w
    obtain ⟨t1, t2⟩ := hv p hp (by omega)
    obtain ⟨k1, k2⟩ := hlv p (by omega)
    obtain ⟨s1, a1, a2, a3⟩ := worse_c (L := L) (xs := xs) (x := vT σ0 p) (l := lv p) hT (by omega) t2 (by omega) pl d
    rw [w.rd (j := 13) rfl] at a1
    obtain ⟨σ', z1, z2, z3⟩ := ih (p + 1) (S + 2) s1 (wrs (gbN C c h (vT σ0 p)) pl (rd σ0 13 (lv p))) (by omega) (by omega) (by omega) a2 (w.trans a3)
    refine ⟨σ', ?_, by rw [show S + 2 * (j + 1) = S + 2 + 2 * j by omega]; exact z2, z3⟩
    have e156 : rn L xs (d + 4) 156 0 [.ref 65, .int (i32 (p : Int))] [] σ = some (.inl (some (.int (i32 (vT σ0 p : Int)))), σ) := by
      rw [e156_0, c_in (by omega) (by omega) (by omega), i32_ixn (by omega), w.rd (j := 67) rfl, t1]
    rw [e176_98 (d + 4), c2_ge (by omega) (by omega) (by omega) (by omega), c_f (by omega), bI_ok e156, c_in (by omega) (by omega) (by omega), i32_ixn (by omega), w.rd (j := 30) rfl, k1, bI_ok a1, i32_up]
    exact z1
end GREAT
section GREATM
variable {L : Nat} {xs : Nat → Int32} {σ τ τ' τ0 : tvS} {D : pgD} {m f : Nat} {N H S : Nat} {G : tG} {r : Nat → Nat} {hl : Nat → List Nat} {hv : Nat → Nat}
theorem count_m {x : Nat} (hZ : MZ N G r hl hv H S τ) (hq : MQt N G r hl hv) (hS : S + 1 < 2147483648) (hx : x < N) (hnm : ∀ t, t < N → r t = t → 2 ≤ G.1 t → RQ G r (hC hl hv) (fun b => b = x) t → ∃ k : Nat, rd τ 184 t = i32 (k : Int) ∧ k ≤ 60) (d : Nat) :
    ∃ (τ' : tvS) (n : Nat), rn L xs (d + 4) 353 0 [.ref 123, .int (i32 (x : Int)), .null, .int 0, jv, jv, jv, jv] [] (wr τ 123 72 (rd τ 123 72 + 1)) = some (.inl (some (.int (i32 (n : Int)))), τ') ∧ n ≤ 100000 ∧ (24 < n ↔ GRT G r (hC hl hv) (fun b => b = x)) ∧ MZ N G r hl hv H (S + 1) τ' ∧ frX [169, 171, 176] [72] [] τ τ' := by
  obtain ⟨q1, q2, q3, q4, q5⟩ := id hq
  have hD := RMD.new hZ.1 hZ.2.1 hZ.2.2 hS
  have w0 : frX [] [72] [] τ (wr τ 123 72 (rd τ 123 72 + 1)) := (show frM [] [72] τ _ from frM_w rfl).X []
  have e184 : ∀ i, rd (wr τ 123 72 (rd τ 123 72 + 1)) 184 i = rd τ 184 i := fun i => wr_nek (by decide)
  obtain ⟨τ', DL, a1, a2, a3, a4, a5⟩ := reach_call (L := L) (xs := xs) (nm := fun t => ix (rd τ 184 t)) (REQ.none (L := L) (xs := xs)) noneB hS q1 q2 q4 hD hx (fun t k ht h1 h2 => by
    obtain ⟨k', k1, k2⟩ := hnm t ht h1 h2 (k.mono (fun b hb => hb.elim (fun h => h.elim) id))
    rw [e184, k1, i32_ixn (by omega)]
    exact ⟨rfl, k2⟩) (B0 := fun _ => False) trivial d jv jv jv jv
  have hiff := fun t => a2.iff q5 q2 q3 q4 t
  have hnd : (bxs G DL).Nodup := by
    have := a2.1.2.2.1
    unfold bxs
    exact (List.nodup_append.mp this).1.filter _
  have hle : (bxs G DL).length ≤ 100000 := by
    have := nodup_lt (N := N) hnd (fun t ht => by
      unfold bxs at ht
      have h1 := (List.mem_filter.mp ht).1
      exact (a2.1.2.2.2.2.1 t (.inl h1)).1)
    omega
  have e0 : (bxs G ([] : List Nat)).length = 0 := rfl
  refine ⟨τ', (bxs G DL).length, ?_, hle, ?_, ⟨a2.1.1.1, a2.1.2.1, a2.1.1.2.1⟩, (w0.sub rfl rfl rfl).trans (a5.sub rfl rfl rfl)⟩
  · rw [a1, e0, Nat.sub_zero]
  · constructor
    · intro k
      exact ⟨bxs G DL, hnd, k, fun t ht => by
        obtain ⟨k1, k2, k3⟩ := (hiff t).mp ht
        exact ⟨k1, k2.mono (fun b hb => hb.elim (fun h => h.elim) id), k3⟩⟩
    · rintro ⟨l, l1, l2, l3⟩
      have := nodup_len l (bxs G DL) l1 (fun t ht => by
        obtain ⟨t1, t2, t3⟩ := l3 t ht
        exact (hiff t).mpr ⟨t1, t2.mono (fun b hb => .inr hb), t3⟩)
      omega
end GREATM
