/-! WEIGHTS of parts, from what was read -/
section PWEIGHTS
variable {K1 K2 m : Nat} {μ : Nat → Nat} {fc : Nat} {σ τ : tvS} {bk bP tV bF bS : Nat → Nat} {D : pgD}
theorem ix_hi (x : Int32) : ix x < 2147483648 := by
  have := ti_hi x
  show x.toInt.toNat < 2147483648
  omega
theorem contK_lt {σ : tvS} : ∀ (l : List Nat) (s p w c : Nat), contK σ s l p → l[w]? = some c → c < p := by
  intro l
  induction l with
  | nil => intro s p w c _ h; cases h
  | cons x l ih =>
    intro s p w c h hw
    obtain ⟨_, _, h3, h4⟩ := h
    cases w with
    | zero => have e : x = c := by injection hw
              omega
    | succ w => exact ih _ _ w c h4 hw
/-- the parts of a call are those that were read -/
theorem kids_eq {p : Nat} {kids : List Nat} (hp : p < 4101) (hN : contN D.st (D.st p) (D.kd p) p) (h162 : rd τ 162 p = i32 (D.gb p : Int)) (h163 : rd τ 163 p = i32 ((D.kd p).length : Int)) (hg : D.gb p + (D.kd p).length ≤ 6000) (h164 : ∀ w c : Nat, (D.kd p)[w]? = some c → rd τ 164 (D.gb p + w) = i32 (c : Int)) {s g : Nat} (hK : contK σ s kids p) (k162 : rd τ 162 p = i32 (g : Int)) (k163 : rd τ 163 p = i32 (kids.length : Int)) (kg : g + kids.length ≤ ix (rd τ 123 60)) (k164 : ∀ w c : Nat, kids[w]? = some c → rd τ 164 (g + w) = i32 (c : Int)) : D.kd p = kids := by
  have hi := ix_hi (rd τ 123 60)
  have eg : D.gb p = g := by
    have := (i32_inj (a := (D.gb p : Int)) (b := (g : Int)) (by omega) (by omega) (by omega) (by omega)).mp (h162.symm.trans k162)
    omega
  have el : (D.kd p).length = kids.length := by
    have := (i32_inj (a := ((D.kd p).length : Int)) (b := (kids.length : Int)) (by omega) (by omega) (by omega) (by omega)).mp (h163.symm.trans k163)
    omega
  refine List.ext_getElem? (fun w => ?_)
  by_cases c : w < (D.kd p).length
  · obtain ⟨x, hx⟩ : ∃ x, (D.kd p)[w]? = some x := ⟨_, List.getElem?_eq_getElem c⟩
    obtain ⟨y, hy⟩ : ∃ y, kids[w]? = some y := ⟨_, List.getElem?_eq_getElem (by omega)⟩
    have h1 := h164 w x hx
    have h2 := k164 w y hy
    rw [eg] at h1
    have hx2 := (contN.at _ _ _ w x hN hx).2.2.1
    have hy2 := contK_lt _ _ _ w y hK hy
    have := (i32_inj (a := (x : Int)) (b := (y : Int)) (by omega) (by omega) (by omega) (by omega)).mp (h1.symm.trans h2)
    rw [hx, hy]
    congr 1
    omega
  · rw [List.getElem?_eq_none (by omega), List.getElem?_eq_none (by omega)]
theorem PRG0.wgt (h : PRG0 K1 K2 m μ fc bk bP tV bF bS σ τ) (hF : PGF D m) (hR : PGR D σ τ) (hb : D.bP = bP) (hfc : D.fc = fc) :
    ∃ W : Nat → Nat, (∀ f p w k : Nat, f ≤ D.fc → D.bP f ≤ p → p < D.bP (f + 1) → (D.kd p)[w]? = some k → cwt D p + W k ≤ W p) ∧ ∀ p, W p ≤ m := by
  obtain ⟨hc, _⟩ := h
  obtain ⟨V, S, C, q, cp, _, _, _, _, _, _, _, _, _, _, hpr, _⟩ := hc
  have hm := hF.1
  refine weights (fi := fun q => ix (rd σ 17 q)) (la := fun q => ix (rd σ 18 q)) hF (fun q hq => ?_) (fun f p w k q hf h1 h2 h3 hk q1 q2 => ?_)
  · obtain ⟨κ, s, kids, _, _, _, _, _, ⟨a, b, a1, a2, a3, a4, _⟩, _⟩ := hpr q (by rw [← hb, ← hfc]; exact hq)
    show ix (rd σ 17 q) ≤ ix (rd σ 18 q) ∧ ix (rd σ 18 q) < m
    rw [a1, a2, i32_ixn (by omega), i32_ixn (by omega)]
    exact ⟨a3, a4⟩
  · obtain ⟨b1, b2⟩ := hF.pb hf h2
    obtain ⟨κ, s, kids, k1, k2, _, _, _, _, k8, _, k10, _, _, _, kw, kc⟩ := hpr p (by rw [← hb, ← hfc]; exact b1)
    have hPR := hR.2 p b1
    have e16 := hPR.1.1
    have ek : κ = 3 := by
      have := (i32_inj (a := (κ : Int)) (b := (D.K p : Int)) (by omega) (by omega) (by omega) (by omega)).mp (k2.symm.trans e16)
      omega
    obtain ⟨p1, p2, p3, p4, p5, p6⟩ := hPR.2.2.1 h3
    obtain ⟨_, _, g, w1, w2, w3, w4⟩ := kw.2.2.2.2.2.2.2.2.2 ek
    have hPF := (hF.2.2 f hf).2.2.1 p h1 h2
    have e := kids_eq (σ := σ) (by omega) hPF.2.1 p3 p4 p5 p6 k10 w1 w2 w3 w4
    obtain ⟨⟨_, hcm⟩, _⟩ := kc.2 ek
    have hkk := (contN.at _ _ _ w k hPF.2.1 hk)
    have e26 := (hR.2 k (by omega)).1.2.2.2.2.1
    rw [e] at hk ⊢
    exact hcm w k (D.st k) hk e26 q q1 q2
end PWEIGHTS
