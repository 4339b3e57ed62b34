/-! READING: a call becomes a part -/
section CALL2
variable {L : Nat} {xs : Nat → Int32} {K1 K2 m : Nat} {μ : Nat → Nat} {g fc : Nat} {sc : List Nat} {fs fs' : List (Nat × Nat × List Nat)} {F D H n A P r r0 : Nat} {σ τ σ' τ' σ1 τ1 : tvS}
theorem kid_lt {l : List Nat} {c w : Nat} (h : w < l.length) : kid (l ++ [c]) w = kid l w := by
  unfold kid; rw [List.getElem?_append_left h]
theorem kid_eq {l : List Nat} {c : Nat} : kid (l ++ [c]) l.length = i32 c := by
  unfold kid; rw [List.getElem?_append_right (Nat.le_refl _), Nat.sub_self]; rfl
theorem kid_ge {l : List Nat} {w : Nat} (h : l.length ≤ w) : kid l w = i32 (-1) := by
  unfold kid; rw [List.getElem?_eq_none h]
theorem getq_lt {l : List Nat} {w c : Nat} (h : l[w]? = some c) : w < l.length := by
  apply Classical.byContradiction
  intro q
  rw [List.getElem?_eq_none (by omega)] at h
  cases h
theorem getq_snoc {l : List Nat} {w c e : Nat} (h : (l ++ [c])[w]? = some e) : w < l.length ∧ l[w]? = some e ∨ w = l.length ∧ e = c := by
  by_cases q : w < l.length
  · rw [List.getElem?_append_left q] at h
    exact Or.inl ⟨q, h⟩
  · have hl := getq_lt h
    rw [List.length_append] at hl
    have hl : w < l.length + 1 := hl
    have hw : w = l.length := by omega
    subst hw
    rw [List.getElem?_append_right (Nat.le_refl _), Nat.sub_self] at h
    exact Or.inr ⟨rfl, (Option.some.inj h).symm⟩
theorem contK.st : ∀ (l : List Nat) (s p : Nat), contK σ s l p → ∀ c, c ∈ l → ∃ s' : Nat, rd σ 26 c = i32 s' ∧ s ≤ s' ∧ s' ≤ c ∧ c < p := by
  intro l
  induction l with
  | nil => intro s p _ c hc; cases hc
  | cons a t ih =>
    intro s p h c hc
    obtain ⟨h1, h2, h3, h4⟩ := h
    cases hc with
    | head => exact ⟨s, h1, Nat.le_refl _, h2, h3⟩
    | tail _ hc =>
      obtain ⟨s', a1, a2, a3, a4⟩ := ih _ _ h4 c hc
      exact ⟨s', a1, by omega, a3, a4⟩
theorem contK.nd : ∀ (l : List Nat) (s p : Nat), contK σ s l p → l.Nodup := by
  intro l
  induction l with
  | nil => intro s p _; exact List.nodup_nil
  | cons a t ih =>
    intro s p h
    obtain ⟨h1, h2, h3, h4⟩ := h
    rw [List.nodup_cons]
    exact ⟨fun q => by have := contK.mem t _ _ h4 a q; omega, ih _ _ h4⟩
/-- a call of the component, with the first of its parts -/
def nodK (σ σ' : tvS) (P : Nat) (f l s fn : Int32) (st : Nat) (kids : List Nat) : Prop :=
  (∀ j i, ¬ (i = P ∧ 16 ≤ j ∧ j ≤ 28) → ¬ (i ∈ kids ∧ 23 ≤ j ∧ j ≤ 25) → ¬ (j = 15 ∧ i = 13) → rd σ' j i = rd σ j i) ∧
  (rd σ' 16 P = i32 3 ∧ rd σ' 17 P = f ∧ rd σ' 18 P = l ∧ rd σ' 20 P = kid kids 0 ∧ rd σ' 23 P = i32 (-1) ∧ rd σ' 24 P = i32 (-1) ∧ rd σ' 25 P = 0 ∧ rd σ' 26 P = i32 st ∧ rd σ' 27 P = fn ∧ rd σ' 28 P = s) ∧
  (∀ w c : Nat, kids[w]? = some c → rd σ' 24 c = i32 P ∧ rd σ' 25 c = i32 6 ∧ rd σ' 23 c = kid kids (w + 1)) ∧ rd σ' 15 13 = i32 (P + 1 : Nat) ∧ σ'.2 = σ.2
theorem nodK.zero {P : Nat} {f l s fn : Int32} : nodK σ (wr (cNew σ P 3 f l s) 27 P fn) P f l s fn P [] := by
  obtain ⟨a1, a2, a3, a4, a5, a6, a7, a8, a9, a10, a11, a12, a13, a14⟩ := cNew_at (σ := σ) (P := P) (κ := 3) (f := f) (l := l) (s := s)
  refine ⟨fun j i h1 h2 h3 => ?_, ⟨(wr_nek (by omega)).trans a1, (wr_nek (by omega)).trans a2, (wr_nek (by omega)).trans a3, (wr_nek (by omega)).trans a5, (wr_nek (by omega)).trans a8, (wr_nek (by omega)).trans a9, (wr_nek (by omega)).trans a10, (wr_nek (by omega)).trans a11, by rw [rd_wr, if_pos ⟨rfl, rfl⟩], (wr_nek (by omega)).trans a13⟩, fun w c h => by simp at h, (wr_nek (by omega)).trans a14, rfl⟩
  rw [rd_wr, if_neg (by omega)]
  by_cases hi : i = P
  · exact cNew_oth (rgN_no (by omega)) (by omega)
  · exact cNew_old hi (by omega)
theorem nodK.add {P : Nat} {f l s fn : Int32} {st st' : Nat} {kids : List Nat} (h : nodK σ σ' P f l s fn st kids) {c : Nat} (hc : c ≠ P) (hk : c ∉ kids) (hkP : P ∉ kids) (h23 : rd σ 23 c = i32 (-1)) (hnd : kids.Nodup)
    (h1 : kids = [] ∧ σ1 = wr σ' 20 P (i32 c) ∨ ∃ pre e, kids = pre ++ [e] ∧ σ1 = wr σ' 23 e (i32 c)) : nodK σ (wr (wr (wr σ1 24 c (i32 P)) 25 c 6) 26 P (i32 st')) P f l s fn st' (kids ++ [c]) := by
  obtain ⟨a1, ⟨b1, b2, b3, b4, b5, b6, b7, b8, b9, b10⟩, a3, a4, a5⟩ := h
  have hf : ∀ j i, ¬ (i = c ∧ (j = 24 ∨ j = 25)) → ¬ (i = P ∧ j = 26) → rd (wr (wr (wr σ1 24 c (i32 P)) 25 c 6) 26 P (i32 st')) j i = rd σ1 j i := fun j i h1 h2 => by
    rw [rd_wr, if_neg (by omega), rd_wr, if_neg (by omega), rd_wr, if_neg (by omega)]
  have h2 : ∀ j i, ¬ (i = P ∧ j = 20) → ¬ (j = 23 ∧ i ∈ kids) → rd σ1 j i = rd σ' j i := fun j i h3 h4 => by
    rcases h1 with ⟨_, e⟩ | ⟨pre, e, hp, he⟩
    · rw [e, rd_wr, if_neg (by omega)]
    · rw [he, rd_wr, if_neg (fun q => h4 ⟨q.1, by rw [q.2, hp]; exact List.mem_append_right _ List.mem_cons_self⟩)]
  have hl : σ1.2 = σ'.2 := by
    rcases h1 with ⟨_, e⟩ | ⟨pre, e, hp, he⟩
    · rw [e]; rfl
    · rw [he]; rfl
  have hcm : c ∈ kids ++ [c] := List.mem_append_right _ List.mem_cons_self
  have hP : ∀ j, j ≠ 26 → j ≠ 20 → rd (wr (wr (wr σ1 24 c (i32 P)) 25 c 6) 26 P (i32 st')) j P = rd σ' j P := fun j h3 h4 => (hf j P (fun q => hc q.1.symm) (by omega)).trans (h2 j P (by omega) (fun q => hkP q.2))
  refine ⟨fun j i g1 g2 g3 => ?_, ⟨(hP 16 (by omega) (by omega)).trans b1, (hP 17 (by omega) (by omega)).trans b2, (hP 18 (by omega) (by omega)).trans b3, ?_, (hP 23 (by omega) (by omega)).trans b5, (hP 24 (by omega) (by omega)).trans b6, (hP 25 (by omega) (by omega)).trans b7, by rw [rd_wr, if_pos ⟨rfl, rfl⟩], (hP 27 (by omega) (by omega)).trans b9, (hP 28 (by omega) (by omega)).trans b10⟩, fun w e hw => ?_, ?_, hl.trans a5⟩
  · rw [hf j i (fun q => g2 ⟨by rw [q.1]; exact hcm, by omega, by omega⟩) (by omega), h2 j i (by omega) (fun q => g2 ⟨List.mem_append_left _ q.2, by omega, by omega⟩)]
    exact a1 j i g1 (fun q => g2 ⟨List.mem_append_left _ q.1, q.2⟩) g3
  · rw [hf 20 P (by omega) (by omega)]
    rcases h1 with ⟨h, e⟩ | ⟨pre, e, hp, he⟩
    · rw [e, rd_wr, if_pos ⟨rfl, rfl⟩, h]; rfl
    · rw [he, wr_nek (by omega), b4, kid_lt (by rw [hp, List.length_append]; exact Nat.succ_pos _)]
  · rcases getq_snoc hw with ⟨q1, q2⟩ | ⟨q1, q2⟩
    · obtain ⟨c1, c2, c3⟩ := a3 w e q2
      have hem : e ∈ kids := List.mem_of_getElem? q2
      have hec : e ≠ c := fun q => hk (by rw [← q]; exact hem)
      have heP : e ≠ P := fun q => hkP (by rw [← q]; exact hem)
      refine ⟨?_, ?_, ?_⟩
      · rw [hf 24 e (by omega) (by omega), h2 24 e (by omega) (by omega)]; exact c1
      · rw [hf 25 e (by omega) (by omega), h2 25 e (by omega) (by omega)]; exact c2
      · rw [hf 23 e (by omega) (by omega)]
        rcases h1 with ⟨h, _⟩ | ⟨pre, u, hp, he⟩
        · rw [h] at q1; exact absurd q1 (Nat.not_lt_zero _)
        · rw [hp] at q2
          have hlen : kids.length = pre.length + 1 := by rw [hp, List.length_append]; rfl
          rcases getq_snoc q2 with ⟨q3, q4⟩ | ⟨q3, q4⟩
          · have hne : e ≠ u := fun q => by
              rw [hp, List.nodup_append] at hnd
              exact hnd.2.2 e (List.mem_of_getElem? q4) u List.mem_cons_self q
            rw [he, rd_wr, if_neg (fun q => hne q.2), c3, kid_lt (by omega)]
          · rw [he, q4, rd_wr, if_pos ⟨rfl, rfl⟩, show w + 1 = kids.length by omega, kid_eq]
    · subst q2
      refine ⟨?_, ?_, ?_⟩
      · rw [rd_wr, if_neg (by omega), rd_wr, if_neg (by omega), rd_wr, if_pos ⟨rfl, rfl⟩]
      · rw [rd_wr, if_neg (by omega), rd_wr, if_pos ⟨rfl, rfl⟩]; rfl
      · rw [hf 23 e (by omega) (by omega), h2 23 e (by omega) (fun q => hk q.2), a1 23 e (by omega) (fun q => hk q.1) (by omega), h23, kid_ge (by rw [List.length_append, q1]; exact Nat.le_refl _)]
  · rw [hf 15 13 (by omega) (by omega), h2 15 13 (by omega) (by omega)]; exact a4
theorem ccall_loop {kl : List Nat} {P0 P2 H r : Nat} {l s fn : Int32} (hAR : ARGS kl P0 P2 H r σ τ) (hH : H + kl.length ≤ 9100) (hP : P2 < 4101) (hkl : kl ≠ []) (d : Nat) : ∀ (suf pre : List Nat) (σ1 : tvS) (v1 v4 v8 : Value) (st : Nat), kl = pre ++ suf → nodK σ σ1 P2 (i32 A) l s fn st pre → (pre = [] → st = P2) → (pre ≠ [] → st = P0) →
    ∃ σ2, rn L xs (d + 3) 135 122 [.ref 62, v1, .int (i32 A), .int (i32 H), v4, .int (i32 kl.length), .int (i32 P2), .int (i32 pre.length), v8] [] σ1 = some (.inl (some (.int (i32 P2))), wr (wr (wr σ2 62 11 (i32 H)) 62 8 (i32 A)) 62 9 (rd σ2 62 3 - 1)) ∧ nodK σ σ2 P2 (i32 A) l s fn P0 kl := by
  intro suf
  induction suf with
  | nil =>
    intro pre σ1 v1 v4 v8 st h1 h2 h3 h4
    rw [List.append_nil] at h1
    subst h1
    refine ⟨σ1, ?_, ?_⟩
    · rw [e135_122 (d + 2), c2_ge (by omega) (by omega) (by omega) (by omega), c_t (by omega), e135_200]
    · rw [← h4 hkl]; exact h2
  | cons c suf ih =>
    intro pre σ1 v1 v4 v8 st h1 h2 h3 h4
    have hlen : kl.length = pre.length + (suf.length + 1) := by rw [h1, List.length_append]; rfl
    have hc : kl[pre.length]? = some c := by rw [h1, List.getElem?_append_right (Nat.le_refl _), Nat.sub_self]; rfl
    obtain ⟨g1, g2, g3, g4, g5⟩ := hAR.2 pre.length c hc
    have hcm := List.mem_of_getElem? hc
    obtain ⟨sx, u1, u2, u3, u4⟩ := contK.st kl P0 P2 hAR.1 c hcm
    have hnd := contK.nd kl P0 P2 hAR.1
    have hndp : pre.Nodup := by rw [h1, List.nodup_append] at hnd; exact hnd.1
    have hkc : c ∉ pre := fun q => by
      rw [h1, List.nodup_append] at hnd
      exact hnd.2.2 c q c List.mem_cons_self rfl
    have hkP : P2 ∉ pre := fun q => by
      have := contK.mem kl P0 P2 hAR.1 P2 (by rw [h1]; exact List.mem_append_left _ q)
      omega
    have h63 : ∀ i, rd σ1 63 i = rd σ 63 i := fun i => h2.1 63 i (by omega) (by omega) (by omega)
    have h26c : rd σ1 26 c = i32 sx := (h2.1 26 c (by omega) (by omega) (by omega)).trans u1
    have h26P : rd σ1 26 P2 = i32 st := h2.2.1.2.2.2.2.2.2.2.1
    have e1 : i32 (H : Int) + i32 (pre.length : Int) = i32 ((H + pre.length : Nat) : Int) := by rw [i32_add]; congr 1
    have hstep : ∀ (σ3 : tvS), (pre = [] ∧ σ3 = wr σ1 20 P2 (i32 c) ∨ ∃ p e, pre = p ++ [e] ∧ σ3 = wr σ1 23 e (i32 c)) → ∀ v1 v4, ∃ σ2, rn L xs (d + 3) 135 181 [.ref 62, v1, .int (i32 A), .int (i32 H), v4, .int (i32 kl.length), .int (i32 P2), .int (i32 pre.length), .int (i32 c)] [] σ3 = some (.inl (some (.int (i32 P2))), wr (wr (wr σ2 62 11 (i32 H)) 62 8 (i32 A)) 62 9 (rd σ2 62 3 - 1)) ∧ nodK σ σ2 P2 (i32 A) l s fn P0 kl := by
      intro σ3 hσ3 v1 v4
      have k1 : rd σ3 26 P2 = i32 st ∧ rd σ3 26 c = i32 sx := by
        rcases hσ3 with ⟨_, e⟩ | ⟨p, e, _, he⟩
        · rw [e, wr_nek (by omega), wr_nek (by omega)]; exact ⟨h26P, h26c⟩
        · rw [he, wr_nek (by omega), wr_nek (by omega)]; exact ⟨h26P, h26c⟩
      have hst : min st sx = P0 := by
        by_cases q : pre = []
        · have : sx = P0 := by
            subst q
            have hh := hAR.1
            rw [h1] at hh
            have := (i32_inj (by omega) (by omega) (by omega) (by omega)).mp (u1.symm.trans hh.1)
            omega
          rw [h3 q]; omega
        · rw [h4 q]; omega
      have hst4 : st < 4101 := by
        by_cases q : pre = []
        · rw [h3 q]; exact hP
        · rw [h4 q]; omega
      have hn := h2.add (c := c) (st' := P0) (by omega) hkc hkP g4 hndp hσ3
      obtain ⟨σ2, z1, z2⟩ := ih (pre ++ [c]) _ (dj v1) (dj v4) (.int (i32 c)) P0 (by rw [h1, List.append_assoc]; rfl) hn (fun q => absurd q (by simp)) (fun _ => rfl)
      refine ⟨σ2, ?_, z2⟩
      rw [e135_181 (d + 2), bV_ok (cenc_ok (p := P2) (c := c) hP (by omega) k1.1 k1.2 hst4 (by omega) d 6), hst, i32_n1]
      rw [List.length_append] at z1
      exact z1
    by_cases q : pre = []
    · obtain ⟨σ2, z1, z2⟩ := hstep (wr σ1 20 P2 (i32 c)) (Or.inl ⟨q, rfl⟩) v1 v4
      refine ⟨σ2, ?_, z2⟩
      have q0 : pre.length = 0 := by rw [q]; rfl
      rw [e135_122 (d + 2), c2_ge (by omega) (by omega) (by omega) (by omega), c_f (by omega), e1, c_in (by omega) (by omega) (by omega), i32_ixn (by omega), h63, g1, c1_ne (by omega) (by omega), c_f (by omega), c_in (by omega) (by omega) (by omega), i32_ixn (by omega)]
      exact z1
    · obtain ⟨p, e, hpe⟩ : ∃ p e, pre = p ++ [e] := ⟨pre.dropLast, pre.getLast q, (List.dropLast_concat_getLast q).symm⟩
      obtain ⟨σ2, z1, z2⟩ := hstep (wr σ1 23 e (i32 c)) (Or.inr ⟨p, e, hpe, rfl⟩) v1 v4
      refine ⟨σ2, ?_, z2⟩
      have q0 : pre.length = p.length + 1 := by rw [hpe, List.length_append]; rfl
      have he : kl[p.length]? = some e := by rw [h1, hpe, List.append_assoc, List.getElem?_append_right (Nat.le_refl _), Nat.sub_self]; rfl
      have hg := (hAR.2 p.length e he).1
      have hem := contK.mem kl P0 P2 hAR.1 e (List.mem_of_getElem? he)
      rw [e135_122 (d + 2), c2_ge (by omega) (by omega) (by omega) (by omega), c_f (by omega), e1, c_in (by omega) (by omega) (by omega), i32_ixn (by omega), h63, g1, c1_ne (by omega) (by omega), c_t (by omega), e135_160 (d + 2), e1, i32_s1 (by omega), show H + pre.length - 1 = H + p.length by omega, c_in (by omega) (by omega) (by omega), i32_ixn (by omega), h63, hg, c_in (by omega) (by omega) (by omega), i32_ixn (by omega)]
      exact z1
/-- a call of the model, with the first of its parts -/
def nodL (τ τ' : tvS) (P q r : Nat) (f l fn k : Int32) (st : Nat) (kids : List Nat) : Prop :=
  (∀ j i, ¬ (i = P ∧ 151 ≤ j ∧ j ≤ 163) → ¬ (i ∈ kids ∧ j = 159) → ¬ (j = 123 ∧ (i = 46 ∨ i = 60 ∨ i = 22)) → ¬ (j = 164 ∧ q ≤ i) → rd τ' j i = rd τ j i) ∧
  (rd τ' 151 P = i32 4 ∧ rd τ' 152 P = f ∧ rd τ' 153 P = l ∧ rd τ' 157 P = fn ∧ rd τ' 158 P = f ∧ rd τ' 159 P = i32 (-1) ∧ rd τ' 160 P = rd τ 123 43 ∧ rd τ' 161 P = i32 st ∧ rd τ' 162 P = i32 q ∧ rd τ' 163 P = k) ∧
  (∀ w c : Nat, kids[w]? = some c → rd τ' 159 c = i32 P ∧ rd τ' 164 (q + w) = i32 c) ∧ rd τ' 123 46 = i32 (P + 1 : Nat) ∧ rd τ' 123 60 = i32 (q + kids.length : Nat) ∧ rd τ' 123 22 = i32 r
theorem nodL.zero {P q r : Nat} {f l fn k : Int32} (hq : rd τ 123 60 = i32 q) : nodL τ (wr (wr (wr (wr (mNew τ P 4 f l) 157 P fn) 162 P (i32 q)) 163 P k) 123 22 (i32 r)) P q r f l fn k P [] := by
  obtain ⟨a1, a2, a3, a4, a5, a6, a7, a8, a9, a10, a11, a12, a13⟩ := mNew_at (τ := τ) (P := P) (κ := 4) (f := f) (l := l)
  have hb : ∀ j i, ¬ (i = P ∧ (j = 157 ∨ j = 162 ∨ j = 163)) → ¬ (j = 123 ∧ i = 22) → rd (wr (wr (wr (wr (mNew τ P 4 f l) 157 P fn) 162 P (i32 q)) 163 P k) 123 22 (i32 r)) j i = rd (mNew τ P 4 f l) j i := fun j i h1 h2 => by
    rw [rd_wr, if_neg (by omega), rd_wr, if_neg (by omega), rd_wr, if_neg (by omega), rd_wr, if_neg (by omega)]
  refine ⟨fun j i h1 h2 h3 h4 => ?_, ⟨(hb _ _ (by omega) (by omega)).trans a1, (hb _ _ (by omega) (by omega)).trans a2, (hb _ _ (by omega) (by omega)).trans a3, ?_, (hb _ _ (by omega) (by omega)).trans a8, (hb _ _ (by omega) (by omega)).trans a9, (hb _ _ (by omega) (by omega)).trans a10, (hb _ _ (by omega) (by omega)).trans a11, ?_, ?_⟩, fun w c h => by simp at h, (hb _ _ (by omega) (by omega)).trans a13, ?_, by rw [rd_wr, if_pos ⟨rfl, rfl⟩]⟩
  · rw [hb j i (by omega) (by omega)]
    by_cases hi : i = P
    · exact mNew_oth (by omega) (by omega)
    · exact mNew_old hi (by omega)
  · rw [wr_nek (by omega), wr_nek (by omega), wr_nek (by omega), rd_wr, if_pos ⟨rfl, rfl⟩]
  · rw [wr_nek (by omega), wr_nek (by omega), rd_wr, if_pos ⟨rfl, rfl⟩]
  · rw [wr_nek (by omega), rd_wr, if_pos ⟨rfl, rfl⟩]
  · rw [hb 123 60 (by omega) (by omega)]
    exact (mNew_oth (by omega) (by omega)).trans hq
theorem nodL.add {P q r : Nat} {f l fn k : Int32} {st st' : Nat} {kids : List Nat} (h : nodL τ τ' P q r f l fn k st kids) {c : Nat} (hc : c ≠ P) (hk : c ∉ kids) (hkP : P ∉ kids) :
    nodL τ (mUnd (wr (wr τ' 164 (q + kids.length) (i32 c)) 123 60 (i32 (q + kids.length + 1 : Nat))) P c st') P q r f l fn k st' (kids ++ [c]) := by
  obtain ⟨a1, ⟨b1, b2, b3, b4, b5, b6, b7, b8, b9, b10⟩, a3, a4, a5, a6⟩ := h
  have hf : ∀ j i, ¬ (j = 159 ∧ i = c) → ¬ (j = 161 ∧ i = P) → ¬ (j = 164 ∧ i = q + kids.length) → ¬ (j = 123 ∧ i = 60) → rd (mUnd (wr (wr τ' 164 (q + kids.length) (i32 c)) 123 60 (i32 (q + kids.length + 1 : Nat))) P c st') j i = rd τ' j i := fun j i h1 h2 h3 h4 => by
    rw [mUnd_oth h1 h2, rd_wr, if_neg h4, rd_wr, if_neg h3]
  have hcm : c ∈ kids ++ [c] := List.mem_append_right _ List.mem_cons_self
  obtain ⟨x1, x2⟩ := mUnd_at (τ := wr (wr τ' 164 (q + kids.length) (i32 c)) 123 60 (i32 (q + kids.length + 1 : Nat))) (p := P) (c := c) (s := st')
  refine ⟨fun j i h1 h2 h3 h4 => ?_, ⟨(hf _ _ (by omega) (by omega) (by omega) (by omega)).trans b1, (hf _ _ (by omega) (by omega) (by omega) (by omega)).trans b2, (hf _ _ (by omega) (by omega) (by omega) (by omega)).trans b3, (hf _ _ (by omega) (by omega) (by omega) (by omega)).trans b4, (hf _ _ (by omega) (by omega) (by omega) (by omega)).trans b5, (hf _ _ (fun q => hc q.2.symm) (by omega) (by omega) (by omega)).trans b6, (hf _ _ (by omega) (by omega) (by omega) (by omega)).trans b7, x2, (hf _ _ (by omega) (by omega) (by omega) (by omega)).trans b9, (hf _ _ (by omega) (by omega) (by omega) (by omega)).trans b10⟩, fun w e hw => ?_, (hf _ _ (by omega) (by omega) (by omega) (by omega)).trans a4, ?_, (hf _ _ (by omega) (by omega) (by omega) (by omega)).trans a6⟩
  · rw [hf j i (fun q => h2 ⟨by rw [q.2]; exact hcm, q.1⟩) (by omega) (by omega) (by omega)]
    exact a1 j i h1 (fun q => h2 ⟨List.mem_append_left _ q.1, q.2⟩) h3 h4
  · rcases getq_snoc hw with ⟨q1, q2⟩ | ⟨q1, q2⟩
    · obtain ⟨c1, c2⟩ := a3 w e q2
      have hec : e ≠ c := fun q => hk (by rw [← q]; exact List.mem_of_getElem? q2)
      exact ⟨(hf _ _ (by omega) (by omega) (by omega) (by omega)).trans c1, (hf _ _ (by omega) (by omega) (by omega) (by omega)).trans c2⟩
    · subst q2
      refine ⟨x1, ?_⟩
      rw [mUnd_oth (by omega) (by omega), wr_nek (by omega), q1, rd_wr, if_pos ⟨rfl, rfl⟩]
  · rw [mUnd_oth (by omega) (by omega), rd_wr, if_pos ⟨rfl, rfl⟩, List.length_append]; rfl
theorem mcall_loop {kl : List Nat} {P0 P2 q r : Nat} {l fn k : Int32} (hk : contK σ P0 kl P2) (h161 : ∀ c, c ∈ kl → rd τ 161 c = rd σ 26 c) (h135 : ∀ w c : Nat, kl[w]? = some c → rd τ 135 (r + w) = i32 c) (hq : q + kl.length < 6000) (hr : r + kl.length < 6000) (hP : P2 < 6000) (hkl : kl ≠ []) : ∀ (suf pre : List Nat) (τ1 : tvS) (st : Nat), kl = pre ++ suf → nodL τ τ1 P2 q r (i32 A) l fn k st pre → (pre = [] → st = P2) → (pre ≠ [] → st = P0) →
    ∃ τ2, (∀ (d : Nat) (v3 : Value), rn L xs (d + 2) 322 134 [.ref 123, .int (i32 A), .int (i32 kl.length), v3, .int (i32 P2), .int (i32 pre.length)] [] τ1 = some (.inl none, wr (wr (wr (wr τ2 135 r (i32 P2)) 136 r (i32 A)) 137 r (rd τ2 123 17 - 1)) 123 22 (i32 (r + 1 : Nat)))) ∧ nodL τ τ2 P2 q r (i32 A) l fn k P0 kl := by
  intro suf
  induction suf with
  | nil =>
    intro pre τ1 st h1 h2 h3 h4
    rw [List.append_nil] at h1
    subst h1
    refine ⟨τ1, fun d v3 => ?_, ?_⟩
    · rw [e322_134 (d + 1), c2_ge (by omega) (by omega) (by omega) (by omega), c_t (by omega), e322_195 (d + 1), bV_ok (mhold_ok (r := r) h2.2.2.2.2.2 (by omega) d _ _ _)]
    · rw [← h4 hkl]; exact h2
  | cons c suf ih =>
    intro pre τ1 st h1 h2 h3 h4
    have hlen : kl.length = pre.length + (suf.length + 1) := by rw [h1, List.length_append]; rfl
    have hc : kl[pre.length]? = some c := by rw [h1, List.getElem?_append_right (Nat.le_refl _), Nat.sub_self]; rfl
    have hcm := List.mem_of_getElem? hc
    obtain ⟨sx, u1, u2, u3, u4⟩ := contK.st kl P0 P2 hk c hcm
    have hnd := contK.nd kl P0 P2 hk
    have hkc : c ∉ pre := fun q => by
      rw [h1, List.nodup_append] at hnd
      exact hnd.2.2 c q c List.mem_cons_self rfl
    have hkP : P2 ∉ pre := fun q => by
      have := contK.mem kl P0 P2 hk P2 (by rw [h1]; exact List.mem_append_left _ q)
      omega
    have g135 : rd τ1 135 (r + pre.length) = i32 c := (h2.1 135 _ (by omega) (by omega) (by omega) (by omega)).trans (h135 _ _ hc)
    have g161c : rd τ1 161 c = i32 sx := (h2.1 161 c (by omega) (by omega) (by omega) (by omega)).trans ((h161 c hcm).trans u1)
    have g161P : rd τ1 161 P2 = i32 st := h2.2.1.2.2.2.2.2.2.2.1
    have hst : min st sx = P0 := by
      by_cases q : pre = []
      · have : sx = P0 := by
          subst q
          have hh := hk
          rw [h1] at hh
          have := (i32_inj (by omega) (by omega) (by omega) (by omega)).mp (u1.symm.trans hh.1)
          omega
        rw [h3 q]; omega
      · rw [h4 q]; omega
    have hst4 : st < 6000 := by
      by_cases q : pre = []
      · rw [h3 q]; exact hP
      · rw [h4 q]; omega
    have hn := h2.add (c := c) (st' := P0) (by omega) hkc hkP
    obtain ⟨τ2, z1, z2⟩ := ih (pre ++ [c]) _ P0 (by rw [h1, List.append_assoc]; rfl) hn (fun q => absurd q (by simp)) (fun _ => rfl)
    refine ⟨τ2, fun d v3 => ?_, z2⟩
    have e1 : i32 (r : Int) + i32 (pre.length : Int) = i32 ((r + pre.length : Nat) : Int) := by rw [i32_add]; congr 1
    have g22 : rd τ1 123 22 = i32 r := h2.2.2.2.2.2
    have g60 : rd τ1 123 60 = i32 (q + pre.length : Nat) := h2.2.2.2.2.1
    rw [e322_134 (d + 1), c2_ge (by omega) (by omega) (by omega) (by omega), c_f (by omega), g22, g60, e1, c_in (by omega) (by omega) (by omega), c_in (by omega) (by omega) (by omega), c_in (by omega) (by omega) (by omega), i32_ixn (by omega), i32_ixn (by omega), g135, i32_n1,
      bV_ok (mund_ok (p := P2) (c := c) (sp := st) (sx := sx) hP (by omega) (by omega) (by rw [wr_nek (by omega), wr_nek (by omega)]; exact g161P) (by rw [wr_nek (by omega), wr_nek (by omega)]; exact g161c) hst4 (by omega) d), hst, i32_n1]
    have z1 := z1 d (dj v3)
    rw [List.length_append] at z1
    exact z1
end CALL2
