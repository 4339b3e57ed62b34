/-! CODE: make -/
section MAKE2
variable {L : Nat} {xs : Nat → Int32} {σ σ' σ0 τ0 : tvS} {K1 K2 N f a n : Nat} {C : tG} {c : Nat → Nat} {cf : Int} {D : pgD} {G : sgD} {rg : rgD} {cd : cdD} {m : Nat} {cp : Nat → List (Nat × Nat)} {dp : Nat → Nat}
theorem par_code (hE : CEN D G rg cd m N c cp dp σ0 τ0) (hf : f ≤ D.fc) (d : Nat) : ∀ (j k : Nat) (σ : tvS), k + j = D.bk f → CDS K1 K2 N C c f cf a σ0 σ → (∀ i, i < k → rd σ 99 (D.tV f + i) = i32 (cd.sl (D.tV f + i) : Int)) →
    ∃ (σ' : tvS) (v1 : Value), rn L xs (d + 1) 197 44 [.ref 94, .int (i32 (k : Int))] [] σ = rn L xs (d + 1) 197 86 [.ref 94, v1] [] σ' ∧ CDS K1 K2 N C c f cf a σ0 σ' ∧ (∀ i, i < D.bk f → rd σ' 99 (D.tV f + i) = i32 (cd.sl (D.tV f + i) : Int)) ∧ ∀ j, j ≠ 99 → ∀ i, rd σ' j i = rd σ j i := by
  obtain ⟨u1, u2, u3, u4, u5, u6⟩ := hE.up hf
  have hPf := (hE.1.2.2 f hf).1
  obtain ⟨r44, r45, _⟩ := (hE.2.1.1 f hf).1
  intro j
  induction j with
  | zero =>
    intro k σ hk hC hS
    have w := hC.2.2.2.2.2.2.1
    refine ⟨σ, .int (i32 (k : Int)), ?_, hC, fun i hi => hS i (by omega), fun _ _ _ => rfl⟩
    rw [e197_44, hC.2.2.2.2.1, c_in (by omega) (by omega) (by omega), i32_ixn (by omega), w.1 44 rfl, r44, c2_ge (by omega) (by omega) (by omega) (by omega), c_t (by omega)]
  | succ j ih =>
    intro k σ hk hC hS
    have w := hC.2.2.2.2.2.2.1
    have hs := hE.2.2.1.2.2.1 f k hf (by omega)
    obtain ⟨s1, v1, a1, a2, a3, a4⟩ := ih (k + 1) (wr σ 99 (D.tV f + k) (i32 (k : Int))) (by omega) (hC.row (by omega)) (fun i hi => by
      by_cases q : i = k
      · subst q; rw [wr_self, hs]
      · rw [wr_nei (by omega)]; exact hS i (by omega))
    refine ⟨s1, v1, ?_, a2, a3, fun j hj i => by rw [a4 j hj, wr_nek hj]⟩
    rw [e197_44, hC.2.2.2.2.1, c_in (by omega) (by omega) (by omega), i32_ixn (by omega), w.1 44 rfl, r44, c2_ge (by omega) (by omega) (by omega) (by omega), c_f (by omega), c_in (by omega) (by omega) (by omega), w.1 45 rfl, r45, i32_add, show ((D.tV f : Int) + (k : Int)) = ((D.tV f + k : Nat) : Int) by omega, c_in (by omega) (by omega) (by omega), i32_ixn (by omega), i32_up]
    exact a1
theorem mk_code (hE : CEN D G rg cd m N c cp dp σ0 τ0) (h2 : CEN2 D cd) (h38 : rd σ0 15 38 = i32 (D.fc : Int)) (hT : sumF (cqT D rg) 0 (D.fc + 1) ≤ 131000) (d : Nat) :
    ∀ (j f a : Nat) (cf : Int) (σ : tvS) (v1 : Value), f + j = D.fc + 1 → CDS K1 K2 N C c f cf a σ0 σ → a ≤ sumF (cqT D rg) 0 f → (∀ g, g < f → FCO D rg cd a σ g) → (∀ h', h' < D.bF f → HCO D rg cd a σ h') →
      ∃ (σ' : tvS) (a' : Nat) (cf' : Int), rn L xs (d + 307) 197 10 [.ref 94, v1] [] σ = some (.inl none, σ') ∧ CDS K1 K2 N C c (D.fc + 1) cf' a' σ0 σ' ∧ (∀ g, g < D.fc + 1 → FCO D rg cd a' σ' g) ∧ (∀ h', h' < D.bF (D.fc + 1) → HCO D rg cd a' σ' h') ∧ a' ≤ 131000 := by
  have hb := hE.1.1
  intro j
  induction j with
  | zero =>
    intro f a cf σ v1 hj hC ha hFC hHC
    have ef : f = D.fc + 1 := by omega
    subst ef
    have w := hC.2.2.2.2.2.2.1
    refine ⟨σ, a, cf, ?_, hC, hFC, hHC, by omega⟩
    rw [e197_10 (d + 306), hC.2.2.2.2.1, w.1 15 rfl, h38, c2_gt (by omega) (by omega) (by omega) (by omega), c_t (by omega), e197_254]
  | succ j ih =>
    intro f a cf σ v1 hj hC ha hFC hHC
    have hf : f ≤ D.fc := by omega
    obtain ⟨u1, u2, u3, u4, u5, u6⟩ := hE.up hf
    have hPf := hE.1.2.2 f hf
    obtain ⟨r44, r45, r46, r47, r48, r49⟩ := (hE.2.1.1 f hf).1
    have w := hC.2.2.2.2.2.2.1
    have hsum : sumF (cqT D rg) 0 (f + 1) ≤ 131000 := Nat.le_trans (sumF_sub (s := 0) (s' := 0) (n := D.fc + 1) (n' := f + 1) (Nat.le_refl _) (by omega)) hT
    have hsum1 : sumF (cqT D rg) 0 (f + 1) = sumF (cqT D rg) 0 f + cqT D rg f := by
      show sumF (cqT D rg) 0 f + cqT D rg (0 + f) = _
      rw [Nat.zero_add]
    have C1 : CDS K1 K2 N C c f cf a σ0 (wr σ 96 f (i32 (a : Int))) := hC.row (by omega)
    have C2 : CDS K1 K2 N C c f (-1) a σ0 (wr (wr σ 96 f (i32 (a : Int))) 94 10 (i32 (-1))) := C1.fld
    obtain ⟨s1, v1', a1, a2, a3, a4⟩ := par_code (L := L) (xs := xs) hE hf (d + 306) (D.bk f) 0 _ (by omega) C2 (fun i hi => by omega)
    have hroot : D.bP f ≤ D.bP (f + 1) - 1 ∧ D.bP (f + 1) - 1 < D.bP (f + 1) := by have := hPf.1.1; omega
    have hfn : cd.fn D (D.bP (f + 1) - 1) = -1 := by
      show (match D.sl (D.bP (f + 1) - 1) with | [] => -1 | v :: _ => cd.vo v) = _
      rw [hPf.2.1.2]
      cases e : D.bk f with
      | zero => rfl
      | succ k =>
        have hv : ∀ v, v ∈ pls (D.tV f) (k + 1) → cd.vo v = -1 := fun v hv => by
          obtain ⟨p1, p2⟩ := pls_bd hv
          have := h2.1 f (v - D.tV f) hf (by omega)
          rw [show D.tV f + (v - D.tV f) = v by omega] at this
          exact this
        have key : ∀ l : List Nat, (∀ v, v ∈ l → cd.vo v = -1) → (match l with | [] => (-1 : Int) | v :: _ => cd.vo v) = -1 := by
          intro l hl
          cases l with
          | nil => rfl
          | cons v r => exact hl v List.mem_cons_self
        exact key _ hv
    have hSL : SLS D cd (-1) (D.bP (f + 1) - 1) s1 := fun v hv _ => by
      rw [hPf.2.1.2] at hv
      obtain ⟨p1, p2⟩ := pls_bd hv
      have := a3 (v - D.tV f) (by omega)
      rw [show D.tV f + (v - D.tV f) = v by omega] at this
      exact this
    have hst := hPf.2.1.1
    have cs := cqN_zero (D := D) (rg := rg) (cd := cd) (f := f) (D.bP f) (D.bP (f + 1) - D.bP f)
    have ca := cqN_all (D := D) (rg := rg) (cd := cd) (f := f) 0 (D.bP f) (D.bP (f + 1) - D.bP f)
    have hcT : cqT D rg f = sumF (cqA rg f) (D.bP f) (D.bP (f + 1) - D.bP f) + (D.bF (f + 1) - D.bF f) + 1 := rfl
    have es : sumF (cqF D rg cd f (-1)) (D.st (D.bP (f + 1) - 1)) (D.bP (f + 1) - 1 + 1 - D.st (D.bP (f + 1) - 1)) = sumF (cqF D rg cd f (-1)) (D.bP f) (D.bP (f + 1) - D.bP f) := by
      rw [hst, show D.bP (f + 1) - 1 + 1 = D.bP (f + 1) by omega]
    obtain ⟨s5, b, b1, b2, b3, b4, b5⟩ := part_code (L := L) (xs := xs) (K1 := K1) (K2 := K2) (C := C) hE hf 100 (D.bP (f + 1) - 1) a d s1 hroot.1 hroot.2 hfn (by omega) a2 hSL (by rw [es]; omega)
    rw [es] at b5
    have lt := CA.lt _ _ _ _ b3
    obtain ⟨s6, d1, d2, d3, d4, _⟩ := put_code (L := L) (xs := xs) (sl := cd.sl) b2 (by omega) (if f = D.fc then 27 else 26) (d + 305)
    have g95 : ∀ i, i < a → rd s6 95 i = rd σ 95 i := fun i hi => by rw [d4.1 i (by omega), b4.1 i hi, a4 95 (by decide), wr_nek (by decide), wr_nek (by decide)]
    have g96 : ∀ i, rd s6 96 i = rd (wr σ 96 f (i32 (a : Int))) 96 i := fun i => by rw [d4.2.2 96 (by omega), b4.2.2 96 (by omega), a4 96 (by decide), wr_nek (by decide)]
    have g97 : ∀ j, j = 97 ∨ j = 98 → ∀ i, rd s6 j i = rd σ j i := fun j hj i => by rw [d4.2.2 j (by omega), b4.2.2 j (by omega), a4 j (by omega), wr_nek (by omega), wr_nek (by omega)]
    obtain ⟨s7, a', cf', v1'', e1, e2, e3, e4, e5⟩ := fns_code (L := L) (xs := xs) hE h2 hf (A0 := sumF (cqT D rg) 0 f) (by omega) d (D.bF (f + 1) - D.bF f) (D.bF f) (b + 1) (-1) s6 (by have := hPf.1.2.2.1; omega) (Nat.le_refl _) d2 (by rw [Nat.sub_self]; omega) (fun g hg => by
      by_cases q : g = f
      · subst q
        exact ⟨a, b, by rw [g96, wr_self], CA.to _ _ _ _ b3 (fun i i1 i2 => d4.1 i i2), d3, by omega⟩
      · exact (hFC g (by omega)).go g95 (by rw [g96, wr_nei q]) (by omega)) (fun h' hh => (hHC h' hh).go g95 (g97 97 (by omega) _) (g97 98 (by omega) _) (by omega))
    obtain ⟨s8, a8, cf8, f1, f2, f3, f4, f5⟩ := ih (f + 1) a' cf' (wr s7 94 9 (i32 ((f + 1 : Nat) : Int))) v1'' (by omega) e2.fun' (by omega) (fun g hg => (e4 g hg).go (fun i _ => wr_nek (by decide)) (wr_nek (by decide)) (Nat.le_refl _)) (fun h' hh => (e5 h' hh).go (fun i _ => wr_nek (by decide)) (wr_nek (by decide)) (wr_nek (by decide)) (Nat.le_refl _))
    refine ⟨s8, a8, cf8, ?_, f2, f3, f4, f5⟩
    have p76 : rn L xs (d + 306) 76 0 [.ref 15, .int (i32 (f : Int))] [] s1 = some (.inl (some (.int (i32 ((D.bP (f + 1) - 1 : Nat) : Int)))), s1) := by
      have w1 := a2.2.2.2.2.2.2.1
      rw [e76_0, c_in (by omega) (by omega) (by omega), i32_ixn (by omega), w1.1 47 rfl, r47, show (1 : Int32) = i32 1 from rfl, i32_sub, show ((D.bP (f + 1) : Int) - 1) = ((D.bP (f + 1) - 1 : Nat) : Int) by omega]
    have b1' : rn L xs (d + 306) 198 0 [.ref 94, .int (i32 ((D.bP (f + 1) - 1 : Nat) : Int)), .int (i32 (D.bk f : Int)), jv, jv] [] s1 = some (.inl none, s5) := by
      have := b1
      rw [hE.2.2.1.1 f hf] at this
      exact this
    have w5 := b2.2.2.2.2.2.2.1
    have fin : ∀ v1 : Value, rn L xs (d + 307) 197 135 [.ref 94, v1] [.int (if f = D.fc then 27 else 26), .ref 94] s5 = some (.inl none, s8) := fun v1 => by
      rw [e197_135 (d + 306), bV_ok d1, d2.2.2.2.2.1, c_in (by omega) (by omega) (by omega), i32_ixn (by omega), d2.2.2.2.2.2.2.1.1 48 rfl, r48, e1, e197_241, e2.2.2.2.2.1, i32_up]
      exact f1
    rw [e197_10 (d + 306), hC.2.2.2.2.1, w.1 15 rfl, h38, c2_gt (by omega) (by omega) (by omega) (by omega), c_f (by omega), c_in (by omega) (by omega) (by omega), hC.2.2.1, i32_ixn (by omega), i32_raw]
    refine Eq.trans a1 ?_
    rw [e197_86 (d + 306), a2.2.2.2.2.1, bI_ok p76, a2.2.2.2.2.1, c_in (by omega) (by omega) (by omega), i32_ixn (by omega), a2.2.2.2.2.2.2.1.1 44 rfl, r44, bV_ok b1', b2.2.2.2.2.1, w5.1 15 rfl, h38, c2_ge (by omega) (by omega) (by omega) (by omega)]
    by_cases q : f = D.fc
    · rw [c_t (by omega), e197_133]
      have := fin (dj (dj v1'))
      rw [if_pos q] at this
      exact this
    · rw [c_f (by omega)]
      have := fin (dj (dj v1'))
      rw [if_neg q] at this
      exact this
/-- make -/
theorem make_code (hE : CEN D G rg cd m N c cp dp σ0 τ0) (h2 : CEN2 D cd) (h38 : rd σ0 15 38 = i32 (D.fc : Int)) (hT : sumF (cqT D rg) 0 (D.fc + 1) ≤ 131000) (hC : TC N C c σ0) (hR : ROOM K1 K2 σ0) (v1 : Value) (d : Nat) :
    ∃ (σ' : tvS) (a' : Nat) (cf' : Int), rn L xs (d + 307) 197 0 [.ref 94, v1] [] σ0 = some (.inl none, σ') ∧ CDS K1 K2 N C c (D.fc + 1) cf' a' σ0 σ' ∧ (∀ g, g < D.fc + 1 → FCO D rg cd a' σ' g) ∧ (∀ h', h' < D.bF (D.fc + 1) → HCO D rg cd a' σ' h') ∧ a' ≤ 131000 := by
  have w : frW [94] σ0 (wr (wr σ0 94 4 0) 94 9 0) := (frW_wr rfl).trans (frW_wr rfl)
  have hx : ∃ cf : Int, rd σ0 94 10 = i32 cf := ⟨(rd σ0 94 10).toInt, (i32_of _).symm⟩
  obtain ⟨cf, hcf⟩ := hx
  have h0 : CDS K1 K2 N C c 0 cf 0 σ0 (wr (wr σ0 94 4 0) 94 9 0) := ⟨hC.T (w.T [] [] rfl) rfl ⟨rfl, rfl, rfl, rfl⟩ (fun _ _ _ => rfl), hR.fr w, by rw [wr_nei (by decide), wr_self]; rfl, Nat.zero_le _, by rw [wr_self]; rfl, by rw [wr_nei (by decide), wr_nei (by decide)]; exact hcf, (w.G [95]).sub rfl rfl, fun i i1 i2 i3 => by rw [wr_nei i2, wr_nei i1]⟩
  have hbF := hE.1.2.1.2.2
  obtain ⟨s, a', cf', e1, e2⟩ := mk_code (L := L) (xs := xs) hE h2 h38 hT d (D.fc + 1) 0 0 cf _ v1 (by omega) h0 (Nat.zero_le _) (fun g hg => by omega) (fun h' hh => by omega)
  exact ⟨s, a', cf', by rw [e197_0]; exact e1, e2⟩
theorem one_sum {z : Int} {s : Nat} : ∀ n, (((s + n : Nat) : Int) ≤ z → sumF (fun q => if z = (q : Int) then 1 else 0) s n = 0) ∧ sumF (fun q => if z = (q : Int) then 1 else 0) s n ≤ 1 := by
  intro n
  induction n with
  | zero => exact ⟨fun _ => rfl, Nat.zero_le _⟩
  | succ n ih =>
    obtain ⟨i1, i2⟩ := ih
    refine ⟨fun h => ?_, ?_⟩
    · show sumF _ s n + (if z = ((s + n : Nat) : Int) then 1 else 0) = 0
      rw [i1 (by omega), if_neg (by omega)]
    · show sumF _ s n + (if z = ((s + n : Nat) : Int) then 1 else 0) ≤ 1
      by_cases q : z = ((s + n : Nat) : Int)
      · rw [i1 (by omega), if_pos q]; exact Nat.le_refl _
      · rw [if_neg q]; exact i2
theorem own_sum {ow : Nat → Int} {s len : Nat} : ∀ n, sumF (fun q => (nfil (fun k => ow k = (q : Int)) n).length) s len ≤ n := by
  intro n
  induction n with
  | zero =>
    have := sumF_cst (w := fun q => (nfil (fun k => ow k = (q : Int)) 0).length) (s := s) (k := 0) len (fun _ _ => rfl)
    omega
  | succ n ih =>
    have h1 : sumF (fun q => (nfil (fun k => ow k = (q : Int)) (n + 1)).length) s len ≤ sumF (fun q => (nfil (fun k => ow k = (q : Int)) n).length + (if ow n = (q : Int) then 1 else 0)) s len := sumF_mono len (fun i _ => by
      show (nfil (fun k => ow k = ((s + i : Nat) : Int)) (n + 1)).length ≤ (nfil (fun k => ow k = ((s + i : Nat) : Int)) n).length + (if ow n = ((s + i : Nat) : Int) then 1 else 0)
      by_cases q : ow n = ((s + i : Nat) : Int)
      · rw [nfil_y (mk := fun k => ow k = ((s + i : Nat) : Int)) q, if_pos q, List.length_append]; exact Nat.le_refl _
      · rw [nfil_n (mk := fun k => ow k = ((s + i : Nat) : Int)) q, if_neg q]; exact Nat.le_refl _)
    rw [sumF_two] at h1
    have h2 := (one_sum (z := ow n) (s := s) len).2
    omega
theorem cqT_le (hn : rg.nK f ≤ 60) : cqT D rg f ≤ 104 * (D.bP (f + 1) - D.bP f) + 121 + (D.bF (f + 1) - D.bF f) := by
  have e : sumF (cqA rg f) (D.bP f) (D.bP (f + 1) - D.bP f) = sumF (fun q => 104 + ((ownN rg f q).length + (ownN rg f q).length)) (D.bP f) (D.bP (f + 1) - D.bP f) := by
    congr 1
    funext q
    unfold cqA; omega
  rw [sumF_two (w := fun _ => 104) (w' := fun q => (ownN rg f q).length + (ownN rg f q).length), sumF_two (w := fun q => (ownN rg f q).length) (w' := fun q => (ownN rg f q).length), sumF_cst (w := fun _ => 104) (k := 104) _ (fun _ _ => rfl)] at e
  have h := own_sum (ow := rg.ow f) (s := D.bP f) (len := D.bP (f + 1) - D.bP f) (rg.nK f)
  have h : sumF (fun q => (ownN rg f q).length) (D.bP f) (D.bP (f + 1) - D.bP f) ≤ rg.nK f := h
  unfold cqT
  omega
/-- all of it has room -/
theorem code_room (hE : CEN D G rg cd m N c cp dp σ0 τ0) (hm : m ≤ 520) (hP : D.bP (D.fc + 1) ≤ 2 * m) : sumF (cqT D rg) 0 (D.fc + 1) ≤ 131000 := by
  have hb := hE.1.1
  have key : ∀ k, k ≤ D.fc + 1 → sumF (cqT D rg) 0 k ≤ 104 * D.bP k + 121 * k + D.bF k := by
    intro k
    induction k with
    | zero => intro _; exact Nat.zero_le _
    | succ k ih =>
      intro hk
      have i := ih (by omega)
      have hPf := (hE.1.2.2 k (by omega)).1
      obtain ⟨_, _, ⟨_, q, _⟩, _⟩ := hE.2.2.2.1 k (by omega)
      have := cqT_le (D := D) (rg := rg) (f := k) q
      show sumF (cqT D rg) 0 k + cqT D rg (0 + k) ≤ _
      rw [Nat.zero_add]
      omega
  have := key (D.fc + 1) (Nat.le_refl _)
  omega
end MAKE2
