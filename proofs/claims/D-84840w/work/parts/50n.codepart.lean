/-! CODE: a whole part -/
section CODEPART
variable {L : Nat} {xs : Nat → Int32} {σ σ' σ0 τ0 : tvS} {K1 K2 N f a n : Nat} {C : tG} {c : Nat → Nat} {cf : Int} {D : pgD} {G : sgD} {rg : rgD} {cd : cdD} {m : Nat} {cp : Nat → List (Nat × Nat)} {dp : Nat → Nat}
theorem nfil_pre {mk : Nat → Prop} : ∀ (j i : Nat), (nfil mk i).length ≤ (nfil mk (i + j)).length := by
  intro j
  induction j with
  | zero => intro i; exact Nat.le_refl _
  | succ j ih =>
    intro i
    have := ih i
    by_cases h : mk (i + j)
    · rw [show i + (j + 1) = i + j + 1 from rfl, nfil_y h, List.length_append]; omega
    · rw [show i + (j + 1) = i + j + 1 from rfl, nfil_n h]; exact this
theorem CEN.fnb {p : Nat} (hE : CEN D G rg cd m N c cp dp σ0 τ0) (hp : p < D.bP (D.fc + 1)) : -1 ≤ cd.fn D p ∧ cd.fn D p < 4101 := by
  obtain ⟨_, _, _, _, _, ⟨hv, _⟩, _, _, _, hs, _⟩ := hE
  have key : ∀ l : List Nat, D.sl p = l → -1 ≤ (match l with | [] => (-1 : Int) | v :: _ => cd.vo v) ∧ (match l with | [] => (-1 : Int) | v :: _ => cd.vo v) < 4101 := by
    intro l e
    cases l with
    | nil => exact ⟨(by decide : (-1 : Int) ≤ -1), (by decide : (-1 : Int) < 4101)⟩
    | cons v r =>
      have := hs p v hp (by rw [e]; exact List.mem_cons_self)
      exact (hv v this.1).2
  exact key (D.sl p) rfl
/-- the inside is told by the row -/
theorem INN.to {R R' : Nat → Int32} {p b e : Nat} (h3 : INN D rg cd R f (CA D rg cd R f n) p a e) (he : e ≤ b) (hR : ∀ i, a ≤ i → i < b → R' i = R i) (hae : a < e) : INN D rg cd R' f (CA D rg cd R' f n) p a e := by
  have lt := CA.lt (D := D) (rg := rg) (cd := cd) (R := R) (f := f) n
  have kt : ∀ (l : List Nat) (x y : Nat), a ≤ x → y ≤ b → KCH (CA D rg cd R f n) l x y → KCH (CA D rg cd R' f n) l x y := fun l x y hx hy hk => KCH.to lt l x y a b hx hy (fun k x' y' _ q1 q2 q3 => CA.to _ _ _ _ q3 (fun i i1 i2 => hR i (by omega) (by omega))) hk
  have kl := KCH.le (C := CA D rg cd R f n) lt
  obtain ⟨k0, k1, k2, k3, k4, k5, k17, k18, k19, k20⟩ := h3
  refine ⟨fun q => ?_, fun q => ?_, fun q => ?_, fun q => ?_, fun q => ?_, fun q => ?_, fun q => ?_, fun q => ?_, fun q => ?_, fun q => ?_⟩
  · obtain ⟨a1, a2, a3⟩ := k0 q
    exact ⟨by rw [hR _ (by omega) (by omega)]; exact a1, by rw [hR _ (by omega) (by omega)]; exact a2, a3⟩
  · obtain ⟨a1, a3⟩ := k1 q
    exact ⟨by rw [hR _ (by omega) (by omega)]; exact a1, a3⟩
  · obtain ⟨a1, a2⟩ := k2 q
    rw [hR _ (by omega) (by omega), hR _ (by omega) (by omega)]
    exact ⟨a1, a2⟩
  · obtain ⟨x, a1, a2, a3, a4, a5, a6⟩ := k3 q
    have := kl _ _ _ a1
    refine ⟨x, kt _ _ _ (by omega) (by omega) a1, by rw [hR _ (by omega) (by omega)]; exact a2, by rw [hR _ (by omega) (by omega)]; exact a3, by rw [hR _ (by omega) (by omega)]; exact a4, a5, fun i hi => ?_⟩
    rw [hR _ (by omega) (by omega), hR _ (by omega) (by omega)]; exact a6 i hi
  · obtain ⟨x, a1, a2, a3, a4⟩ := k4 q
    have := kl _ _ _ a1
    exact ⟨x, kt _ _ _ (by omega) (by omega) a1, by rw [hR _ (by omega) (by omega)]; exact a2, by rw [hR _ (by omega) (by omega)]; exact a3, a4⟩
  · obtain ⟨x, a1, a2, a3⟩ := k5 q
    have := kl _ _ _ a1
    exact ⟨x, kt _ _ _ (by omega) (by omega) a1, by rw [hR _ (by omega) (by omega)]; exact a2, a3⟩
  · obtain ⟨a1, a2, a3, a4, a5⟩ := k17 q
    refine ⟨by rw [hR _ (by omega) (by omega)]; exact a1, by rw [hR _ (by omega) (by omega)]; exact a2, by rw [hR _ (by omega) (by omega)]; exact a3, a4, fun i hi => ?_⟩
    rw [hR _ (by omega) (by omega), hR _ (by omega) (by omega)]; exact a5 i hi
  · obtain ⟨c0, c1, c2, x, y, a0, a1, a2, a3, a4, a5, a6, a7⟩ := k18 q
    have l1 := lt _ _ _ a1
    have l2 := lt _ _ _ a4
    have l3 := lt _ _ _ a7
    exact ⟨c0, c1, c2, x, y, a0, CA.to _ _ _ _ a1 (fun i i1 i2 => hR i (by omega) (by omega)), by rw [hR _ (by omega) (by omega)]; exact a2, by rw [hR _ (by omega) (by omega)]; exact a3, CA.to _ _ _ _ a4 (fun i i1 i2 => hR i (by omega) (by omega)), by rw [hR _ (by omega) (by omega)]; exact a5, by rw [hR _ (by omega) (by omega)]; exact a6, CA.to _ _ _ _ a7 (fun i i1 i2 => hR i (by omega) (by omega))⟩
  · obtain ⟨c0, c1, x, y, a0, a1, a2, a3, a4, a5⟩ := k19 q
    have l1 := lt _ _ _ a1
    have l2 := lt _ _ _ a2
    exact ⟨c0, c1, x, y, a0, CA.to _ _ _ _ a1 (fun i i1 i2 => hR i (by omega) (by omega)), CA.to _ _ _ _ a2 (fun i i1 i2 => hR i (by omega) (by omega)), by rw [hR _ (by omega) (by omega)]; exact a3, by rw [hR _ (by omega) (by omega)]; exact a4, a5⟩
  · obtain ⟨c0, c1, c2, x, y, a0, a1, a2, a3, a4, a5, a6, a7, a8, a9⟩ := k20 q
    have l1 := lt _ _ _ a1
    have l2 := lt _ _ _ a4
    have l3 := lt _ _ _ a9
    exact ⟨c0, c1, c2, x, y, a0, CA.to _ _ _ _ a1 (fun i i1 i2 => hR i (by omega) (by omega)), by rw [hR _ (by omega) (by omega)]; exact a2, by rw [hR _ (by omega) (by omega)]; exact a3, CA.to _ _ _ _ a4 (fun i i1 i2 => hR i (by omega) (by omega)), by rw [hR _ (by omega) (by omega)]; exact a5, by rw [hR _ (by omega) (by omega)]; exact a6, by rw [hR _ (by omega) (by omega)]; exact a7, by rw [hR _ (by omega) (by omega)]; exact a8, CA.to _ _ _ _ a9 (fun i i1 i2 => hR i (by omega) (by omega))⟩
/-- the inside of a part -/
theorem in_all {p : Nat} (hE : CEN D G rg cd m N c cp dp σ0 τ0) (hf : f ≤ D.fc) (IH : PTC L xs K1 K2 N C c D rg cd dp f cf σ0 n) (h1 : D.bP f ≤ p) (h2 : p < D.bP (f + 1)) (hfn : cd.fn D p = cf) (hdp : 100 ≤ dp p + (n + 1)) (hC : CDS K1 K2 N C c f cf a σ0 σ) (hS : SLS D cd cf p σ) (hz : a + sumF (cqF D rg cd f cf) (D.st p) (p - D.st p) + 55 + (if D.K p = 17 then 45 else 0) ≤ 131000) (d : Nat) :
    ∃ (σ' : tvS) (e : Nat), rn L xs (d + 3 * n + 8) 201 0 [.ref 94, .int (i32 (p : Int)), .int (i32 (cd.hg p : Int))] [] σ = some (.inl none, σ') ∧ CDS K1 K2 N C c f cf e σ0 σ' ∧ INN D rg cd (rd σ' 95) f (CA D rg cd (rd σ' 95) f n) p a e ∧ a < e ∧ CEX cd.sl a σ σ' ∧ e ≤ a + sumF (cqF D rg cd f cf) (D.st p) (p - D.st p) + 55 + (if D.K p = 17 then 45 else 0) := by
  have u := hE.up hf
  have hk := ((hE.1.2.2 f hf).2.2.1 p h1 h2).1.1
  have cases : D.K p = 0 ∨ D.K p = 1 ∨ D.K p = 2 ∨ D.K p = 3 ∨ (D.K p = 4 ∨ D.K p = 16) ∨ (D.K p = 5 ∨ D.K p = 6) ∨ (D.K p = 7 ∨ (8 ≤ D.K p ∧ D.K p ≤ 15)) ∨ D.K p = 17 ∨ D.K p = 18 ∨ D.K p = 19 ∨ D.K p = 20 := by omega
  rcases cases with k | k | k | k | k | k | k | k | k | k | k
  · rw [if_neg (by omega)] at hz ⊢
    obtain ⟨s, a1, a2, a3, a4, a5⟩ := in_num (L := L) (xs := xs) hE hf h1 h2 k hC (by omega) (i32 (cd.hg p : Int)) (d + 3 * n + 5)
    exact ⟨s, a + 2, a1, a2, ⟨fun _ => ⟨a3, a4, rfl⟩, fun q => by omega, fun q => by omega, fun q => by omega, fun q => by omega, fun q => by omega, fun q => by omega, fun q => by omega, fun q => by omega, fun q => by omega⟩, by omega, a5, by omega⟩
  · rw [if_neg (by omega)] at hz ⊢
    obtain ⟨s, a1, a2, a3, a4⟩ := in_nil (L := L) (xs := xs) hE hf h1 h2 k hC (by omega) (i32 (cd.hg p : Int)) (d + 3 * n + 6)
    exact ⟨s, a + 1, a1, a2, ⟨fun q => by omega, fun _ => ⟨a3, rfl⟩, fun q => by omega, fun q => by omega, fun q => by omega, fun q => by omega, fun q => by omega, fun q => by omega, fun q => by omega, fun q => by omega⟩, by omega, a4, by omega⟩
  · rw [if_neg (by omega)] at hz ⊢
    obtain ⟨s, a1, a2, a3, a4⟩ := in_var (L := L) (xs := xs) hE hf h1 h2 k hfn hC hS (by omega) (i32 (cd.hg p : Int)) (d + 3 * n + 4)
    exact ⟨s, a + 2, a1, a2, ⟨fun q => by omega, fun q => by omega, fun _ => ⟨rfl, by rw [hfn]; exact a3⟩, fun q => by omega, fun q => by omega, fun q => by omega, fun q => by omega, fun q => by omega, fun q => by omega, fun q => by omega⟩, by omega, a4, by omega⟩
  · rw [if_neg (by omega)] at hz ⊢
    obtain ⟨s, x, a1, a2, a3, a4, a5, a6, a7, a8, a9, a10, a11⟩ := in_call (L := L) (xs := xs) hE hf IH h1 h2 hfn hdp k hC hS (by omega) d
    exact ⟨s, _, a1, a2, ⟨fun q => by omega, fun q => by omega, fun q => by omega, fun _ => ⟨x, a4, a5, a6, a7, rfl, a8⟩, fun q => by omega, fun q => by omega, fun q => by omega, fun q => by omega, fun q => by omega, fun q => by omega⟩, by omega, a9, by omega⟩
  · rw [if_neg (by omega)] at hz ⊢
    obtain ⟨s, x, a1, a2, a3, a4, a5, a6, a7⟩ := in_put (L := L) (xs := xs) hE hf IH h1 h2 hfn hdp k hC hS (by omega) d
    have := KCH.le (C := CA D rg cd (rd s 95) f n) (CA.lt n) _ _ _ a3
    exact ⟨s, _, a1, a2, ⟨fun q => by omega, fun q => by omega, fun q => by omega, fun q => by omega, fun _ => ⟨x, a3, a4, a5, rfl⟩, fun q => by omega, fun q => by omega, fun q => by omega, fun q => by omega, fun q => by omega⟩, by omega, a6, by omega⟩
  · rw [if_neg (by omega)] at hz ⊢
    obtain ⟨s, x, a1, a2, a3, a4, a5, a6⟩ := in_of (L := L) (xs := xs) hE hf IH h1 h2 hfn hdp k hC hS (by omega) d
    have := KCH.le (C := CA D rg cd (rd s 95) f n) (CA.lt n) _ _ _ a3
    exact ⟨s, _, a1, a2, ⟨fun q => by omega, fun q => by omega, fun q => by omega, fun q => by omega, fun q => by omega, fun _ => ⟨x, a3, a4, rfl⟩, fun q => by omega, fun q => by omega, fun q => by omega, fun q => by omega⟩, by omega, a5, by omega⟩
  · rw [if_neg (by omega)] at hz ⊢
    obtain ⟨s, x, a1, a2, a3, a4, a5, a6⟩ := in_two (L := L) (xs := xs) hE hf IH h1 h2 hfn hdp k hC hS (by omega) d
    have := KCH.le (C := CA D rg cd (rd s 95) f n) (CA.lt n) _ _ _ a3
    exact ⟨s, _, a1, a2, ⟨fun q => by omega, fun q => by omega, fun q => by omega, fun q => by omega, fun q => by omega, fun _ => ⟨x, a3, a4, rfl⟩, fun q => by omega, fun q => by omega, fun q => by omega, fun q => by omega⟩, by omega, a5, by omega⟩
  · rw [if_pos k] at hz ⊢
    have hcf := hE.fnb (p := p) (by omega)
    rw [hfn] at hcf
    obtain ⟨s, a1, a2, a3, a4, a5, a6, a7, a8⟩ := in_fn (L := L) (xs := xs) hE hf h1 h2 hfn hcf k hC hS (by omega) (i32 (cd.hg p : Int)) (d + 3 * n + 3)
    exact ⟨s, _, a1, a2, ⟨fun q => by omega, fun q => by omega, fun q => by omega, fun q => by omega, fun q => by omega, fun q => by omega, fun _ => ⟨a4, a5, a6, rfl, fun i hi => by rw [hfn, show a + 4 + 2 * i = a + 3 + 2 * i + 1 by omega]; exact a7 i hi⟩, fun q => by omega, fun q => by omega, fun q => by omega⟩, by omega, a8, by omega⟩
  · rw [if_neg (by omega)] at hz ⊢
    obtain ⟨s, k0, k1, k2, x, y, b, a1, a2, a3, a4, a5, a6, a7, a8, a9, a10, a11, a12⟩ := in_if (L := L) (xs := xs) hE hf IH h1 h2 hfn hdp k hC hS (by omega) d
    have l1 := CA.lt _ _ _ _ a4
    have l2 := CA.lt _ _ _ _ a7
    have l3 := CA.lt _ _ _ _ a10
    exact ⟨s, b, a1, a2, ⟨fun q => by omega, fun q => by omega, fun q => by omega, fun q => by omega, fun q => by omega, fun q => by omega, fun q => by omega, fun _ => ⟨k0, k1, k2, x, y, a3, a4, a5, a6, a7, a8, a9, a10⟩, fun q => by omega, fun q => by omega⟩, by omega, a11, by omega⟩
  · rw [if_neg (by omega)] at hz ⊢
    obtain ⟨s, k0, k1, x, y, a1, a2, a3, a4, a5, a6, a7, a8, a9⟩ := in_let (L := L) (xs := xs) hE hf IH h1 h2 hfn hdp k hC hS (by omega) d
    have l1 := CA.lt _ _ _ _ a4
    have l2 := CA.lt _ _ _ _ a5
    exact ⟨s, y + 2, a1, a2, ⟨fun q => by omega, fun q => by omega, fun q => by omega, fun q => by omega, fun q => by omega, fun q => by omega, fun q => by omega, fun q => by omega, fun _ => ⟨k0, k1, x, y, a3, a4, a5, a6, a7, rfl⟩, fun q => by omega⟩, by omega, a8, by omega⟩
  · rw [if_neg (by omega)] at hz ⊢
    obtain ⟨s, k0, k1, k2, x, y, b, a1, a2, a3, a4, a5, a6, a7, a8, a9, a10, a11, a12, a13, a14⟩ := in_case (L := L) (xs := xs) hE hf IH h1 h2 hfn hdp k hC hS (by omega) d
    have l1 := CA.lt _ _ _ _ a4
    have l2 := CA.lt _ _ _ _ a7
    have l3 := CA.lt _ _ _ _ a12
    exact ⟨s, b, a1, a2, ⟨fun q => by omega, fun q => by omega, fun q => by omega, fun q => by omega, fun q => by omega, fun q => by omega, fun q => by omega, fun q => by omega, fun q => by omega, fun _ => ⟨k0, k1, k2, x, y, a3, a4, a5, a6, a7, a8, a9, a10, a11, a12⟩⟩, by omega, a13, by omega⟩
/-- regions that a part owns -/
theorem own_loop {p a0 : Nat} (hE : CEN D G rg cd m N c cp dp σ0 τ0) (hf : f ≤ D.fc) (h1 : D.bP f ≤ p) (h2 : p < D.bP (f + 1)) (x2 : Int32) (hz : a0 + 2 * (ownN rg f p).length ≤ 131000) (d : Nat) :
    ∀ (j i : Nat) (σ : tvS), i + j = rg.nK f → CDS K1 K2 N C c f cf (a0 + 2 * (nfil (fun k => rg.ow f k = (p : Int)) i).length) σ0 σ → (∀ t, t < (nfil (fun k => rg.ow f k = (p : Int)) i).length → rd σ 95 (a0 + 2 * t) = 1 ∧ rd σ 95 (a0 + 2 * t + 1) = i32 ((nfil (fun k => rg.ow f k = (p : Int)) i).getD t 0 : Nat)) →
      ∃ (σ' : tvS) (v4 : Value), rn L xs (d + 4) 198 10 [.ref 94, .int (i32 (p : Int)), .int x2, .int (i32 ((nfil (fun k => rg.ow f k = (p : Int)) i).length : Int)), .int (i32 ((i + 1 : Nat) : Int))] [] σ = rn L xs (d + 4) 198 62 [.ref 94, .int (i32 (p : Int)), .int x2, .int (i32 ((ownN rg f p).length : Int)), v4] [] σ' ∧ CDS K1 K2 N C c f cf (a0 + 2 * (ownN rg f p).length) σ0 σ' ∧ (∀ t, t < (ownN rg f p).length → rd σ' 95 (a0 + 2 * t) = 1 ∧ rd σ' 95 (a0 + 2 * t + 1) = i32 ((ownN rg f p).getD t 0 : Nat)) ∧ CEX cd.sl a0 σ σ' := by
  obtain ⟨u1, u2, u3, u4, u5, u6⟩ := hE.up hf
  obtain ⟨fst, bl, ⟨b1, b2, b3, b4, b5, b6, b7⟩, _⟩ := hE.2.2.2.1 f hf
  obtain ⟨q1, q2, q3, q4, q5⟩ := b3
  intro j
  induction j with
  | zero =>
    intro i σ hi hC hR
    have w := hC.2.2.2.2.2.2.1
    have ei : nfil (fun k => rg.ow f k = (p : Int)) i = ownN rg f p := by unfold ownN; rw [show i = rg.nK f by omega]
    rw [ei] at hC hR ⊢
    refine ⟨σ, .int (i32 ((i + 1 : Nat) : Int)), ?_, hC, hR, CEX.refl⟩
    have p179 : rn L xs (d + 3) 179 0 [.ref 74, .int (i32 (f : Int))] [] σ = some (.inl (some (.int (i32 (bl.length : Int)))), σ) := by
      rw [e179_0, c_in (by omega) (by omega) (by omega), i32_ixn (by omega), w.1 80 rfl, q2]
    rw [e198_10 (d + 3), hC.2.2.2.2.1, bI_ok p179, c2_gt (by omega) (by omega) (by omega) (by omega), c_t (by omega)]
  | succ j ih =>
    intro i σ hi hC hR
    have w := hC.2.2.2.2.2.2.1
    obtain ⟨o1, o2, o3⟩ := b7 i (by omega)
    have p179 : rn L xs (d + 3) 179 0 [.ref 74, .int (i32 (f : Int))] [] σ = some (.inl (some (.int (i32 (bl.length : Int)))), σ) := by
      rw [e179_0, c_in (by omega) (by omega) (by omega), i32_ixn (by omega), w.1 80 rfl, q2]
    have p174 : rn L xs (d + 3) 174 0 [.ref 74, .int (i32 (f : Int)), .int (i32 ((i + 1 : Nat) : Int))] [] σ = some (.inl (some (.int (i32 (rg.ow f i)))), σ) := by
      rw [e174_0, c_in (by omega) (by omega) (by omega), i32_ixn (by omega), w.1 79 rfl, q1, i32_add, show ((fst : Int) + ((i + 1 : Nat) : Int)) = ((fst + i + 1 : Nat) : Int) by omega, show (1 : Int32) = i32 1 from rfl, i32_sub, show (((fst + i + 1 : Nat) : Int) - 1) = ((fst + i : Nat) : Int) by omega, (w.2.2 82 rfl).1, c_in (by omega) (by omega) (by omega), i32_ixn (by omega), w.1 82 rfl, o1]
    have hpre := nfil_pre (mk := fun k => rg.ow f k = (p : Int)) (j + 1) i
    have hpre1 := nfil_pre (mk := fun k => rg.ow f k = (p : Int)) j (i + 1)
    have hown : (ownN rg f p).length = (nfil (fun k => rg.ow f k = (p : Int)) (rg.nK f)).length := rfl
    rw [show i + (j + 1) = rg.nK f by omega, ← hown] at hpre
    rw [show i + 1 + j = rg.nK f by omega, ← hown] at hpre1
    rw [e198_10 (d + 3), hC.2.2.2.2.1, bI_ok p179, c2_gt (by omega) (by omega) (by omega) (by omega), c_f (by omega), hC.2.2.2.2.1, bI_ok p174, c2_eq (by omega) (by omega) (by omega) (by omega)]
    by_cases q : rg.ow f i = (p : Int)
    · have ey := nfil_y (mk := fun k => rg.ow f k = (p : Int)) (k := i) q
      have el : (nfil (fun k => rg.ow f k = (p : Int)) (i + 1)).length = (nfil (fun k => rg.ow f k = (p : Int)) i).length + 1 := by rw [ey, List.length_append]; rfl
      obtain ⟨s1, c1, c2, c3, c4, c5, _⟩ := put_two (L := L) (xs := xs) (sl := cd.sl) hC (by omega) 1 (i32 ((i + 1 : Nat) : Int)) (d + 1)
      have hR' : ∀ t, t < (nfil (fun k => rg.ow f k = (p : Int)) (i + 1)).length → rd s1 95 (a0 + 2 * t) = 1 ∧ rd s1 95 (a0 + 2 * t + 1) = i32 ((nfil (fun k => rg.ow f k = (p : Int)) (i + 1)).getD t 0 : Nat) := fun t ht => by
        by_cases t1 : t < (nfil (fun k => rg.ow f k = (p : Int)) i).length
        · rw [c5.1 _ (by omega), c5.1 _ (by omega), ey, List.getD_eq_getElem?_getD, List.getElem?_append_left t1, ← List.getD_eq_getElem?_getD]
          exact hR t t1
        · have et : t = (nfil (fun k => rg.ow f k = (p : Int)) i).length := by omega
          subst et
          rw [c3, c4, ey, List.getD_eq_getElem?_getD, List.getElem?_append_right (Nat.le_refl _), Nat.sub_self]
          exact ⟨rfl, rfl⟩
      obtain ⟨s2, v4, d1, d2, d3, d4⟩ := ih (i + 1) s1 (by omega) (by rw [el, show a0 + 2 * ((nfil (fun k => rg.ow f k = (p : Int)) i).length + 1) = a0 + 2 * (nfil (fun k => rg.ow f k = (p : Int)) i).length + 2 by omega]; exact c2) hR'
      refine ⟨s2, v4, ?_, d2, d3, ?_⟩
      · rw [c_t (by exact q), e198_46 (d + 3), bV_ok c1, e198_56, i32_up, i32_up]
        rw [el] at d1
        exact d1
      · exact (show CEX cd.sl a0 σ s1 from ⟨fun i' hi' => c5.1 i' (by omega), c5.2⟩).trans d4 (Nat.le_refl _)
    · have en := nfil_n (mk := fun k => rg.ow f k = (p : Int)) (k := i) q
      rw [← en] at hC hR
      obtain ⟨s2, v4, d1, d2, d3, d4⟩ := ih (i + 1) σ (by omega) hC hR
      refine ⟨s2, v4, ?_, d2, d3, d4⟩
      rw [c_f (by exact q), e198_56, i32_up]
      rw [en] at d1
      exact d1
/-- code of parts, however deep -/
theorem part_code (hE : CEN D G rg cd m N c cp dp σ0 τ0) (hf : f ≤ D.fc) : ∀ n, PTC L xs K1 K2 N C c D rg cd dp f cf σ0 n := by
  intro n
  induction n with
  | zero =>
    intro p a d σ h1 h2 hfn hdp
    have := hE.2.2.2.2.2.2.2.1 p (by have := (hE.up hf).1; omega)
    omega
  | succ n ih =>
    intro p a d σ h1 h2 hfn hdp hC hS hz
    have hst := ((hE.1.2.2 f hf).2.2.1 p h1 h2).1.2.2.2
    have hz0 : sumF (cqF D rg cd f cf) (D.st p) (p + 1 - D.st p) = sumF (cqF D rg cd f cf) (D.st p) (p - D.st p) + cqF D rg cd f cf p := by
      rw [show p + 1 - D.st p = (p - D.st p) + 1 by omega]
      show sumF _ _ (p - D.st p) + cqF D rg cd f cf (D.st p + (p - D.st p)) = _
      rw [show D.st p + (p - D.st p) = p by omega]
    have hcq : cqF D rg cd f cf p = 59 + (if D.K p = 17 then 45 else 0) + 2 * (ownN rg f p).length := by unfold cqF; rw [if_pos hfn]
    rw [hz0, hcq] at hz ⊢
    obtain ⟨s1, a1, a2, a3, a4, a5⟩ := put_code (L := L) (xs := xs) (sl := cd.sl) hC (by omega) 0 (d + 3 * n + 7)
    obtain ⟨s2, v4, b1, b2, b3, b4⟩ := own_loop (L := L) (xs := xs) (p := p) (a0 := a + 1) hE hf h1 h2 (i32 (cd.hg p : Int)) (by omega) (d + 3 * n + 5) (rg.nK f) 0 s1 (by omega) a2 (fun t ht => by cases ht)
    have hx2 := a4.trans b4 (by omega)
    obtain ⟨s3, e, c1, c2, c3, c4, c5, c6⟩ := in_all (L := L) (xs := xs) hE hf ih h1 h2 hfn hdp b2 (hS.go hx2) (by omega) d
    have pre : ∀ s' : tvS, rn L xs (d + 3 * n + 9) 198 0 [.ref 94, .int (i32 (p : Int)), .int (i32 (cd.hg p : Int)), jv, jv] [] σ = rn L xs (d + 3 * n + 9) 198 62 [.ref 94, .int (i32 (p : Int)), .int (i32 (cd.hg p : Int)), .int (i32 ((ownN rg f p).length : Int)), v4] [] s2 := fun _ => by
      rw [e198_0 (d + 3 * n + 8), bV_ok a1]; exact b1
    have hdd : d + 3 * (n + 1) + 6 = d + 3 * n + 9 := by omega
    have h60 : (ownN rg f p).length ≤ rg.nK f := nfil_len _
    have hnk : rg.nK f ≤ 60 := by obtain ⟨_, _, ⟨_, q, _⟩, _⟩ := hE.2.2.2.1 f hf; exact q
    rw [hdd]
    by_cases q : ownN rg f p = []
    · have ql : (ownN rg f p).length = 0 := by rw [q]; rfl
      refine ⟨s3, e, ?_, c2, ⟨?_, fun i hi => by omega, e, c3, c4, .inl ⟨q, rfl⟩⟩, hx2.trans c5 (by omega), by omega⟩
      · rw [pre s3, e198_62 (d + 3 * n + 8), bV_ok c1, ql, show pv_c1 .le (i32 ((0 : Nat) : Int)) = true from rfl, cond_true, e198_78]
      · rw [c5.1 a (by omega), b4.1 a (by omega)]; exact a3
    · have ql : 0 < (ownN rg f p).length := List.length_pos_iff.mpr q
      obtain ⟨s4, d1, d2, d3, d4, d5, _⟩ := put_two (L := L) (xs := xs) (sl := cd.sl) c2 (by omega) 2 (i32 ((ownN rg f p).length : Int)) (d + 3 * n + 6)
      refine ⟨s4, e + 2, ?_, d2, ⟨?_, fun i hi => ?_, e, ?_, c4, .inr ⟨q, d3, d4, rfl⟩⟩, (hx2.trans c5 (by omega)).trans d5 (by omega), by omega⟩
      · have hle : pv_c1 .le (i32 ((ownN rg f p).length : Int)) = false := by
          rw [c1_le (by omega) (by omega)]; exact decide_eq_false (by omega)
        rw [pre s4, e198_62 (d + 3 * n + 8), bV_ok c1, hle, cond_false, bV_ok d1, e198_78]
      · rw [d5.1 a (by omega), c5.1 a (by omega), b4.1 a (by omega)]; exact a3
      · have := b3 i hi
        rw [d5.1 _ (by omega), d5.1 _ (by omega), c5.1 _ (by omega), c5.1 _ (by omega)]
        rw [show a + 2 + 2 * i = a + 1 + 2 * i + 1 by omega]
        exact this
      · exact INN.to c3 (Nat.le_refl _) (fun i i1 i2 => d5.1 i i2) c4
end CODEPART
