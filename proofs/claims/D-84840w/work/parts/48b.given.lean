/-! BETWEEN FUNCTIONS: what a function is given is reached from its signature; plain types of both sides -/
section NEXTA
variable {σ τ σ' τ' τ1 σ2 τ2 : tvS} {K1 K2 Bc Bm f : Nat} {Rc Rm : Nat → Nat → Prop} {pd : List (Nat × List Nat × (Nat → Nat))} {n u a rc rl : Nat} {T T0 T1 T' T2 : tyJ} {D : pgD} {G : sgD} {m : Nat}
theorem RQ.via {Gt : tG} {r : Nat → Nat} {h : Nat → Nat → Prop} {B B' : Nat → Prop} {x : Nat} (q : RQ Gt r h B x) (hb : ∀ b, B b → RQ Gt r h B' b) : RQ Gt r h B' x := q _ (fun x y e k => k.cl e) (fun x z k hk hz => k.kid hk hz) (fun x u k hu => k.held hu) hb
theorem TJ0.plc (h : TJ0 K1 K2 T σ τ) : PLN T.1.1 (yG T) (yC T) (yH T) := by
  obtain ⟨⟨hl, hv, h1, h2, h3, _, _, h6, h7, h8⟩, _⟩ := h
  refine ⟨h6.1, fun x hx => h1.rlt hx, h1.2.2.2.2.2.1, fun x _ hk => h1.kid x hk, fun x u hu => ?_, h1.2.1⟩
  have h8 : yH T = hC hl hv := h8
  rw [h8] at hu
  obtain ⟨i, i1, i2⟩ := hu
  by_cases c : T.1.2.2.1 x < T.1.1
  · refine ⟨c, ?_⟩
    rw [← i2]
    exact (h2.2.2.2.1 i ((h2.2.2.2.2.1 _ c (h6.1 x)).2.2.1 i i1)).2
  · rw [h7 _ (by show T.1.1 ≤ T.1.2.2.1 x; omega)] at i1; cases i1
theorem TJ0.plm (h : TJ0 K1 K2 T σ τ) : PLN T.2.1.1 T.2.1.2.1 T.2.1.2.2.1 T.2.1.2.2.2.1 := by
  obtain ⟨_, ⟨hl, hv, ⟨h1, h2, h3, _, _⟩, h6, h7, h8⟩, _⟩ := h
  refine ⟨h6.1, fun x hx => h1.rlt hx, h1.2.2.2.2.1, fun x hx hk => ?_, fun x u hu => ?_, h1.2.1⟩
  · obtain ⟨_, _, k3⟩ := h1.2.2.2.2.2.1 x hx
    obtain ⟨_, k4, k5⟩ := k3 hk
    exact ⟨k4, fun h3 => (k5 h3).2⟩
  · have h8 : T.2.1.2.2.2.1 = hC hl hv := h8
    rw [h8] at hu
    obtain ⟨i, i1, i2⟩ := hu
    by_cases c : T.2.1.2.2.1 x < T.2.1.1
    · refine ⟨c, ?_⟩
      rw [← i2]
      exact (h2.2.2.1 i ((h2.2.2.2.1 _ c (h6.1 x)).2.2 i i1)).2
    · rw [h7 _ (by omega)] at i1; cases i1
/-- numbers that are given lie in the signature -/
theorem given_reached {bl R : List Nat} {ow : Nat → Int} (hF : PGF D m) (hf : f ≤ D.fc) (hg : GHO D G f (D.bP (f + 1)) (D.bP (f + 1)) T0 T1 σ) (hEQ : bl = bxL (yC T1) ((puL D G f (D.bP (f + 1) - D.bP f)).map (fun e => pnC D σ e.1 e.2)) []) (hR : R = nmK D G f T1.2.1.2.2.1 τ1 (D.bP (f + 1) - D.bP f)) (hNM : NMz T1.2.2 bl R) (hZ : zG (yG T1) (yC T1) T1.2.1.2.1 T1.2.1.2.2.1 T1.2.2) (gM : ∀ x, T1.2.1.2.2.1 (T1.2.1.2.2.1 x) = T1.2.1.2.2.1 x) (hpn : ∀ q i, D.bP f ≤ q → q < D.bP (f + 1) → i < D.np G f q → T1.2.2 (pnC D σ q i) (pnM D τ1 q i))
    (hT : ∀ (i k : Nat) (e : Nat × Nat), (puL D G f (D.bP (f + 1) - D.bP f))[i]? = some e → nuP D G f T1.2.1.2.2.1 R τ1 e.1 e.2 k → TGT D f (fun p => rBx D f (yG T1) (yC T1) (yH T') σ p (pnC D σ e.1 e.2)) e.1 (ow k)) {k : Nat} (hk : k < bl.length) (ho : ow k = -1) : RQ (yG T1) (yC T1) (yH T') (SGb D f (vT σ) (rT σ f)) (bl.getD k 0) ∧ 2 ≤ (yG T1).1 (yC T1 (bl.getD k 0)) := by
  have hPf := hF.2.2 f hf
  have hlt := hPf.1.1
  have hgd : bl[k]? = some (bl.getD k 0) := by rw [List.getD_eq_getElem?_getD, List.getElem?_eq_getElem hk]; rfl
  have hmb := List.mem_of_getElem? hgd
  have hx : bl.getD k 0 ∈ bxL (yC T1) ((puL D G f (D.bP (f + 1) - D.bP f)).map (fun e => pnC D σ e.1 e.2)) [] := by rw [← hEQ]; exact hmb
  rcases bxL_mem _ _ hx with q | q
  · cases q
  obtain ⟨e, e1, e2⟩ := List.mem_map.mp q
  obtain ⟨w, w1, w2⟩ := List.mem_iff_getElem.mp e1
  have hw : (puL D G f (D.bP (f + 1) - D.bP f))[w]? = some e := by rw [List.getElem?_eq_getElem w1, w2]
  have hm := puL_mem _ e e1
  have hkR : k < R.length := by rw [← hNM.1]; exact hk
  obtain ⟨yR, hyR⟩ : ∃ y, R[k]? = some y := ⟨_, List.getElem?_eq_getElem hkR⟩
  have hz := hNM.2 k _ _ hgd hyR
  have hrR : T1.2.1.2.2.1 yR = yR := by
    have := List.mem_of_getElem? hyR
    rw [hR] at this
    rcases (nmL_mem _ _).mp this with k | ⟨y, _, k2⟩
    · cases k
    · have e0 := gM y
      rw [k2] at e0; exact e0
  have hnu : nuP D G f T1.2.1.2.2.1 R τ1 e.1 e.2 k := by
    refine ⟨hm.1, by omega, hm.2.2, ?_⟩
    rw [hyR]
    have := (hZ.1 _ _ _ _ hz (hpn e.1 e.2 hm.1 (by omega) hm.2.2)).mp (by rw [← e2])
    rw [hrR] at this
    rw [this]
  have ht := hT w k e hw hnu
  rw [ho] at ht
  rcases ht with ⟨_, h2⟩ | ⟨p, _, _, h3, _⟩
  · have hW := h2 (D.bP (f + 1) - 1) (by omega) (by omega) ⟨by rw [hPf.2.1.1]; exact hm.1, by omega⟩
    rw [e2] at hW
    refine ⟨hW.1.via (fun b hb => ?_), hW.2⟩
    have hrt : RQ (yG T1) (yC T1) (yH T') (SGb D f (vT σ) (rT σ f)) (rT σ f) := RQ.base (.inl rfl)
    rcases hb with q | ⟨v, v1, v2⟩ | q
    · rw [q]
      exact hrt.cl ((hg.2.2.1 (D.bP (f + 1) - 1) (by omega) (by omega)).1 (by omega)).symm
    · rw [v2]
      rw [hPf.2.1.2] at v1
      have := pls_bd v1
      exact RQ.base (.inr ⟨v - D.tV f, by omega, by rw [show D.tV f + (v - D.tV f) = v by omega]⟩)
    · rw [q]; exact hrt
  · omega
/-- how many they are -/
theorem given_len {bl : List Nat} {ow : Nat → Int} {A U Hh : Nat} {C : tG} {c : Nat → Nat} {h : Nat → Nat → Prop} {Bs : Nat → Prop} (hM : MSR C c h Bs A U Hh) (hI : ∀ x, c (c x) = c x) (hd : (bl.map c).Nodup) (hr : ∀ k, k < bl.length → ow k = -1 → RQ C c h Bs (bl.getD k 0) ∧ 2 ≤ C.1 (c (bl.getD k 0))) : (nfil (fun k => ow k = -1) bl.length).length ≤ A := by
  obtain ⟨⟨l, l1, l2, l3⟩, _⟩ := hM
  have key : ∀ j, j ≤ bl.length → ((nfil (fun k => ow k = -1) j).map (fun x => c (bl.getD (x - 1) 0))).Nodup ∧ ∀ y, y ∈ (nfil (fun k => ow k = -1) j).map (fun x => c (bl.getD (x - 1) 0)) → y ∈ l ∧ ∃ i, i < j ∧ y = c (bl.getD i 0) := by
    intro j
    induction j with
    | zero => intro _; exact ⟨List.nodup_nil, fun y hy => (by cases hy)⟩
    | succ j ih =>
      intro hj
      obtain ⟨i1, i2⟩ := ih (by omega)
      by_cases q : ow j = -1
      · rw [nfil_y (mk := fun k => ow k = -1) q, List.map_append, List.map_cons, List.map_nil, show j + 1 - 1 = j from rfl]
        refine ⟨List.nodup_append.mpr ⟨i1, List.nodup_cons.mpr ⟨fun k => (by cases k), List.nodup_nil⟩, fun a ha b hb e => ?_⟩, fun y hy => ?_⟩
        · rw [List.mem_singleton.mp hb] at e
          obtain ⟨_, i, i3, i4⟩ := i2 a ha
          rw [e] at i4
          have g : ∀ k, k < bl.length → (bl.map c)[k]? = some (c (bl.getD k 0)) := fun k hk => by
            rw [List.getElem?_map, List.getD_eq_getElem?_getD, List.getElem?_eq_getElem hk]; rfl
          have h1 := g i (by omega)
          have h2 := g j (by omega)
          rw [← i4] at h1
          have := (List.getElem?_inj (by rw [List.length_map]; omega) hd).mp (h1.trans h2.symm)
          omega
        · rcases List.mem_append.mp hy with h | h
          · obtain ⟨k1, i, k2, k3⟩ := i2 y h
            exact ⟨k1, i, by omega, k3⟩
          · rw [List.mem_singleton.mp h]
            obtain ⟨q1, q2⟩ := hr j (by omega) q
            exact ⟨(l3 _).mpr ⟨hI _, q2, q1.cl (hI _).symm⟩, j, by omega, rfl⟩
      · rw [nfil_n (mk := fun k => ow k = -1) q]
        exact ⟨i1, fun y hy => by
          obtain ⟨k1, i, k2, k3⟩ := i2 y hy
          exact ⟨k1, i, by omega, k3⟩⟩
  obtain ⟨k1, k2⟩ := key bl.length (Nat.le_refl _)
  have := nodup_len _ l k1 (fun y hy => (k2 y hy).1)
  rw [List.length_map, l2] at this
  exact this
end NEXTA
