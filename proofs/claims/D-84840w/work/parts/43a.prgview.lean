/-! FROM THE READERS TO THE PROGRAM, plainly -/
section PRGVIEW
variable {K1 K2 m : Nat} {μ : Nat → Nat} {fc : Nat} {σ τ : tvS} {bk bP tV bF bS : Nat → Nat}
theorem contN.find {st : Nat → Nat} : ∀ (l : List Nat) (s p : Nat), contN st s l p → ∀ c, s ≤ c → c < p → ∃ w k : Nat, l[w]? = some k ∧ st k ≤ c ∧ c ≤ k ∧ k < p ∧ s ≤ st k := by
  intro l
  induction l with
  | nil => intro s p h c h1 h2; have h : s = p := h; omega
  | cons k r ih =>
    intro s p h c h1 h2
    obtain ⟨a1, a2, a3, a4⟩ := h
    by_cases e : c ≤ k
    · exact ⟨0, k, rfl, by omega, e, a3, by omega⟩
    · obtain ⟨w, k', b1, b2, b3, b4, b5⟩ := ih (k + 1) p a4 c (by omega) h2
      exact ⟨w + 1, k', b1, b2, b3, b4, by omega⟩
theorem sub_par {st : Nat → Nat} {kd : Nat → List Nat} {P : Nat} (h : ∀ p, p < P → contN st (st p) (kd p) p) : ∀ (n p c : Nat), p ≤ n → p < P → st p ≤ c → c < p → ∃ q w : Nat, c < q ∧ q ≤ p ∧ (kd q)[w]? = some c ∧ st p ≤ st c := by
  intro n
  induction n with
  | zero => intro p c h1 h2 h3 h4; omega
  | succ n ih =>
    intro p c h1 h2 h3 h4
    obtain ⟨w, k, b1, b2, b3, b4, b5⟩ := contN.find _ _ _ (h p h2) c h3 h4
    by_cases e : c = k
    · subst e; exact ⟨p, w, h4, Nat.le_refl _, b1, b5⟩
    · obtain ⟨q, w', c1, c2, c3, c4⟩ := ih k c (by omega) (by omega) b2 (by omega)
      exact ⟨q, w', c1, by omega, c3, by omega⟩
/-- what is known of a part, with its kids and its scope -/
def PBd (m S : Nat) (σ τ : tvS) (p : Nat) (kids l : List Nat) : Prop := ix (rd σ 16 p) ≤ 20 ∧ rd σ 16 p = i32 (ix (rd σ 16 p) : Int) ∧ rd τ 151 p = i32 (mKd (ix (rd σ 16 p)) : Int) ∧ rd τ 152 p = rd σ 17 p ∧ (rd σ 17 p = i32 (ix (rd σ 17 p) : Int) ∧ ix (rd σ 17 p) < m) ∧
  rd σ 26 p = i32 (ix (rd σ 26 p) : Int) ∧ rd τ 161 p = i32 (ix (rd σ 26 p) : Int) ∧ contK σ (ix (rd σ 26 p)) kids p ∧ rd τ 159 p = rd σ 24 p ∧ (chV σ l (rd σ 28 p) ∧ (∀ w c : Nat, kids[w]? = some c → chV σ (scl (ix (rd σ 16 p)) w σ p ++ l) (rd σ 28 c)) ∧ ((ix (rd σ 16 p) = 2 → ix (rd σ 27 p) ∈ l) ∧ nnR (ix (rd σ 16 p)) σ p) ∧ ownR (ix (rd σ 16 p)) σ p l) ∧
  (∀ w c : Nat, kids[w]? = some c → rd σ 24 c = i32 p ∧ rd σ 25 c = i32 (rol (ix (rd σ 16 p)) w)) ∧ whtR (ix (rd σ 16 p)) σ τ p kids ∧ calR (ix (rd σ 16 p)) σ p kids
theorem prtR.bd {S p : Nat} (h : prtR m S σ τ p) (hm : m ≤ 3000) (hp : p < 4101) : ∃ kids l, PBd m S σ τ p kids l := by
  obtain ⟨κ, s, kids, a1, a2, a3, a4, a5, ⟨x, y, a6, a7, a8, a9, _⟩, a10, a11, a12, a13, ⟨l, l1, _, l2, l3, l4⟩, a14, a15, a16⟩ := h
  have hs := contK.le _ _ _ a12
  have e1 : ix (rd σ 16 p) = κ := by rw [a2, i32_ixn (by omega)]
  have e2 : ix (rd σ 26 p) = s := by rw [a10, i32_ixn (by omega)]
  have e3 : ix (rd σ 17 p) = x := by rw [a6, i32_ixn (by omega)]
  refine ⟨kids, l, ?_⟩
  unfold PBd
  rw [e1, e2, e3]
  exact ⟨a1, a2, a3, a4, ⟨a6, by omega⟩, a10, a11, a12, a13, ⟨l1, l2, l3, l4⟩, a14, a15, a16⟩
theorem contK.N : ∀ (l : List Nat) (s p : Nat), p < 5000 → contK σ s l p → contN (fun c => ix (rd σ 26 c)) s l p := by
  intro l
  induction l with
  | nil => intro s p _ h; exact h
  | cons k r ih =>
    intro s p hp h
    obtain ⟨a1, a2, a3, a4⟩ := h
    exact ⟨by show ix (rd σ 26 k) = s; rw [a1, i32_ixn (by omega)], a2, a3, ih _ _ hp a4⟩
/-- what a part binds, in the memory -/
theorem PBd.bnd {D : pgD} {S p v : Nat} {kids l : List Nat} (h : PBd m S σ τ p kids l) (hD : D.K p = ix (rd σ 16 p) ∧ D.vl p = ix (rd σ 27 p) ∧ D.gv (D.vl p) = ix (rd σ 36 (ix (rd σ 27 p)))) (hp : p < 4101) (hV : ix (rd σ 15 19) ≤ 3000) : v ∈ D.bd p ↔ bnd σ p v := by
  obtain ⟨a1, a2, _, _, _, _, _, a8, _, ⟨l1, l2, ⟨_, nn⟩, o19, o20, o17⟩, _, _, cl⟩ := h
  obtain ⟨d1, d2, d3⟩ := hD
  unfold pgD.bd
  have hn : ∀ x : Nat, x ≤ 20 → (rd σ 16 p = i32 x ↔ D.K p = x) := fun x hx => by
    rw [a2, d1]
    constructor
    · intro e
      have := (i32_inj (by omega) (by omega) (by omega) (by omega)).mp e
      omega
    · intro e; rw [e]
  have ev : ∀ (y : Int32) (u : Nat), u < 5000 → y = i32 (u : Int) → v < 5000 → y = i32 (v : Int) → v = u := fun y u hu e1 hv e2 => by
    have := (i32_inj (by omega) (by omega) (by omega) (by omega)).mp (e1.symm.trans e2)
    omega
  by_cases q17 : D.K p = 17
  · rw [if_pos q17]
    have hk := d1.symm.trans q17
    have hl : kids.length = 1 := by rw [cl.1 (by omega), hk]; rfl
    obtain ⟨c, hc⟩ := get_lt (show 0 < kids.length by omega)
    have hcp : c + 1 = p := by
      cases kids with
      | nil => cases hc
      | cons k r =>
        have hc : k = c := Option.some.inj hc
        subst hc
        cases r with
        | nil => exact a8.2.2.2
        | cons _ _ => simp at hl
    have hch := (l2 0 c hc).1
    rw [hk] at hch
    have hs : scl 17 0 σ p = [D.gv (D.vl p)] := by unfold scl; rw [if_pos rfl, d3]
    rw [hs] at hch
    have h28 : rd σ 28 (p - 1) = i32 (D.gv (D.vl p) : Int) := by rw [show p - 1 = c by omega]; exact hch.1
    have hg := hch.2.1
    constructor
    · intro hv
      rw [List.mem_singleton.mp hv]
      exact ⟨by omega, .inl ⟨(hn 17 (by omega)).mpr q17, by omega, h28⟩⟩
    · rintro ⟨hv, h1 | h1 | h1⟩
      · rw [ev _ _ (by omega) h28 hv h1.2.2]; exact List.mem_cons_self
      · have := (hn 19 (by omega)).mp h1.1; omega
      · have := (hn 20 (by omega)).mp h1.1; omega
  · rw [if_neg q17]
    by_cases q19 : D.K p = 19
    · rw [if_pos q19]
      have hk := d1.symm.trans q19
      have h27 : rd σ 27 p = i32 (D.vl p : Int) := by rw [d2]; exact (nn.1 (by omega)).symm
      have hb := (o19 hk).1
      constructor
      · intro hv
        rw [List.mem_singleton.mp hv]
        exact ⟨by omega, .inr (.inl ⟨(hn 19 (by omega)).mpr q19, h27⟩)⟩
      · rintro ⟨hv, h1 | h1 | h1⟩
        · have := (hn 17 (by omega)).mp h1.1; omega
        · rw [ev _ _ (by omega) h27 hv h1.2]; exact List.mem_cons_self
        · have := (hn 20 (by omega)).mp h1.1; omega
    · rw [if_neg q19]
      by_cases q20 : D.K p = 20
      · rw [if_pos q20]
        have hk := d1.symm.trans q20
        have h27 : rd σ 27 p = i32 (D.vl p : Int) := by rw [d2]; exact (nn.1 (by omega)).symm
        have hb := (o20 hk).1
        constructor
        · intro hv
          rcases List.mem_cons.mp hv with e | e
          · rw [e]; exact ⟨by omega, .inr (.inr ⟨(hn 20 (by omega)).mpr q20, .inl h27⟩)⟩
          · rw [List.mem_singleton.mp e]; exact ⟨by omega, .inr (.inr ⟨(hn 20 (by omega)).mpr q20, .inr ⟨_, rfl, h27⟩⟩)⟩
        · intro hv
          exact hv.two ((hn 20 (by omega)).mpr q20) (by omega) h27
      · rw [if_neg q20]
        constructor
        · intro hv; cases hv
        · rintro ⟨hv, h1 | h1 | h1⟩
          · exact absurd ((hn 17 (by omega)).mp h1.1) q17
          · exact absurd ((hn 19 (by omega)).mp h1.1) q19
          · exact absurd ((hn 20 (by omega)).mp h1.1) q20
end PRGVIEW
