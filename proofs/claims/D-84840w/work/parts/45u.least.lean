/-! REGIONS: what is held in the end is the least; it is the same on both sides -/
section LFPE
variable {D : pgD} {Gs : sgD} {m f : Nat} {σ τ0 : tvS} {G : tG} {r : Nat → Nat} {R : List Nat} {ar : Nat → Nat} {ow : Nat → Int}
/-- held, by classes -/
def hQ (r : Nat → Nat) (h : Nat → Nat → Prop) (t v : Nat) : Prop := ∃ v', h t v' ∧ r v' = v
theorem hQ.to {h : Nat → Nat → Prop} {Bs : Nat → Prop} {x : Nat} (hI : ∀ x, r (r x) = r x) (q : RQ G r (fun t v => hQ r h t (r v)) Bs x) : RQ G r h Bs x := q.le hI (fun _ _ _ ⟨v', k1, k2⟩ => ⟨v', k1, k2⟩)
theorem hQ.of {h : Nat → Nat → Prop} {Bs : Nat → Prop} {x : Nat} (hI : ∀ x, r (r x) = r x) (q : RQ G r h Bs x) : RQ G r (fun t v => hQ r h t (r v)) Bs x := q.le hI (fun _ v _ k => ⟨v, ⟨v, k, rfl⟩, rfl⟩)
theorem lfp_m {pt by' nm : Nat → Nat} {h h0 : Nat → Nat → Prop} (hI : ∀ x, r (r x) = r x) (hge : hGe r h0 h) (hIN : INTm D Gs f G r h0 τ0) (hBX : BXm D Gs f G r τ0) (hR5 : ∀ q i, D.bP f ≤ q → q < D.bP (f + 1) → i < D.np Gs f q → r (pnM D τ0 q i) ∈ R) (hnR : ∀ k x : Nat, R[k]? = some x → nm x = k + 1) (hby : ∀ j q, D.bF f ≤ j → j < D.bF (f + 1) → spn D (by' j) q → D.bP f ≤ q ∧ q < D.bP (f + 1)) (hO : OWk D f r R (fun p => nbR G r h nm (Bsm D f τ0 p)) (PSb D Gs f τ0 (D.bP (f + 1))) ow) (hH : ∀ j, D.bF f ≤ j → j < D.bF (f + 1) → ∀ q', spn D (by' j) q' → HFm D Gs f G r R ow τ0 h (ar j) (pt j) (by' j) q') : ∀ t v, LFP D f G r h0 (Bsm D f τ0) (D.np Gs f) (pnM D τ0) ar by' (sfM D f by') (cpM D pt by' τ0) t v → hQ r h t v := by
  intro t v k
  have tg : ∀ q i k : Nat, D.bP f ≤ q → q < D.bP (f + 1) → i < D.np Gs f q → R[k]? = some (r (pnM D τ0 q i)) → TGT D f (fun p => nbR G r h nm (Bsm D f τ0 p) k) q (ow k) := fun q i k q1 q2 hi hk => (OWk.all hI hge hIN hBX hnR hO q1 q2 hi hk).1
  have nb : ∀ p q i k : Nat, R[k]? = some (r (pnM D τ0 q i)) → RQ G r (fun t v => hQ r h t (r v)) (Bsm D f τ0 p) (pnM D τ0 q i) ∧ 2 ≤ G.1 (r (pnM D τ0 q i)) → nbR G r h nm (Bsm D f τ0 p) k := fun p q i k hk ⟨k1, k2⟩ => ⟨r (pnM D τ0 q i), hI _, (hQ.to hI k1).cl (hI _).symm, k2, hnR k _ hk⟩
  refine k (hQ r h) ⟨fun t v e k => ⟨v, hge t v e k, rfl⟩, fun j v j1 j2 ⟨q, q1, q2, q3, q4⟩ hk => ?_, fun j q i j1 j2 sp hi ho hk => ?_, fun j q i j1 j2 ⟨q0, s1, s2, s3⟩ q1 q2 hi ho hk => ?_⟩
  · have := (hH j j1 j2 q q1).1 q2 q3
    rw [← q4] at this
    exact this.resolve_left hk
  · obtain ⟨b1, b2⟩ := hby j q j1 j2 sp
    obtain ⟨k, hkk⟩ := List.getElem?_of_mem (hR5 q i b1 b2 hi)
    exact ((hH j j1 j2 q sp).2.1 i k hi hkk ((tg q i k b1 b2 hi hkk).keep (fun p p1 p2 p3 p4 => nb p q i k hkk (ho p p1 p2 p3 p4)))).resolve_left hk
  · obtain ⟨k, hkk⟩ := List.getElem?_of_mem (hR5 q i q1 q2 hi)
    have h1 : ow k = -1 := by
      rcases tg q i k q1 q2 hi hkk with ⟨e, _⟩ | ⟨p, p1, p2, p3, p4, p5, p6⟩
      · exact e
      · exact absurd (nb p q i k hkk (ho p p1 p2 (by omega) p4)) p5
    have := (hH j j1 j2 q0 s1).2.2 s2 s3 k _ hkk h1
    unfold Hd at this
    rw [hI] at this
    exact this.resolve_left hk
end LFPE
section LFPZ
variable {D : pgD} {f : Nat} {C M : tG} {c m : Nat → Nat} {Z : Nat → Nat → Prop}
/-- what is reached, on the other side -/
theorem RQ.zz {h h' : Nat → Nat → Prop} {B B' : Nat → Prop} {x : Nat} (z : zG C c M m Z) (hc : ∀ x, c (c x) = c x) (zh : ∀ x y u, Z x y → h (c x) u → C.1 (c u) ≠ 1 → ∃ v, h' (m y) v ∧ Z u v) (kh : ∀ x u, h (c x) u → C.1 (c x) ≠ 1) (kb : ∀ b, B b → ∃ b', B' b' ∧ Z b b') (q : RQ C c h B x) : C.1 (c x) = 1 ∨ ∃ y, Z x y ∧ RQ M m h' B' y := by
  obtain ⟨z1, z2, z3, z4⟩ := z
  refine q (fun x => C.1 (c x) = 1 ∨ ∃ y, Z x y ∧ RQ M m h' B' y) (fun x x' e k => ?_) (fun x w k hk hw => ?_) (fun x u k hu => ?_) (fun b hb => ?_)
  · rcases k with k | ⟨y, k1, k2⟩
    · exact .inl (by rw [← e]; exact k)
    · exact .inr ⟨y, z2 x y x' y k1 e.symm rfl, k2⟩
  · rcases k with k | ⟨y, k1, k2⟩
    · omega
    · have e := z3 x y k1
      obtain ⟨a1, a2⟩ := z4 x y k1 hk
      unfold kids at hw
      have km : ∀ w', w' ∈ (if M.1 (m y) = 3 then [M.2.1 (m y)] else [M.2.2 (m y), M.2.1 (m y)]) → RQ M m h' B' w' := fun w' hw' => k2.kid (by omega) hw'
      by_cases c3 : C.1 (c x) = 3
      · rw [if_pos c3] at hw
        rw [List.mem_singleton.mp hw]
        exact .inr ⟨_, a1, km _ (by rw [if_pos (by omega)]; exact List.mem_cons_self)⟩
      · rw [if_neg c3] at hw
        rw [if_neg (by omega)] at km
        rcases List.mem_cons.mp hw with k | k
        · rw [k]; exact .inr ⟨_, a2 c3, km _ List.mem_cons_self⟩
        · rw [List.mem_singleton.mp k]; exact .inr ⟨_, a1, km _ (List.mem_cons_of_mem _ List.mem_cons_self)⟩
  · rcases k with k | ⟨y, k1, k2⟩
    · exact absurd k (kh x u hu)
    · by_cases c1 : C.1 (c u) = 1
      · exact .inl c1
      · obtain ⟨v, v1, v2⟩ := zh x y u k1 hu c1
        exact .inr ⟨v, v2, k2.held v1⟩
  · obtain ⟨b', b1, b2⟩ := kb b hb
    exact .inr ⟨b', b2, RQ.base b1⟩
/-- the least, on the other side -/
theorem LFP.zz {h0 h0' : Nat → Nat → Prop} {Bs Bs' : Nat → Nat → Prop} {np : Nat → Nat} {pn pn' : Nat → Nat → Nat} {ar ar' by' : Nat → Nat} {sf sf' : Nat → Prop} {cap cap' : Nat → Nat → Prop} (z : zG C c M m Z) (hc : ∀ x, c (c x) = c x) (hm : ∀ x, m (m x) = m x) (zh : ∀ x y u, Z x y → h0 (c x) u → C.1 (c u) ≠ 1 → ∃ v, h0' (m y) v ∧ Z u v) (k0 : ∀ t v, c t = t → h0 t v → C.1 t = 4) (ka : ∀ j, D.bF f ≤ j → j < D.bF (f + 1) → C.1 (c (ar j)) = 4 ∧ Z (ar j) (ar' j)) (kp : ∀ q i, D.bP f ≤ q → q < D.bP (f + 1) → i < np q → Z (pn q i) (pn' q i)) (kb : ∀ p b, D.bP f ≤ p → p < D.bP (f + 1) → Bs p b → ∃ b', Bs' p b' ∧ Z b b') (hby : ∀ j q, D.bF f ≤ j → j < D.bF (f + 1) → spn D (by' j) q → D.bP f ≤ q ∧ q < D.bP (f + 1)) (ks : ∀ j, D.bF f ≤ j → j < D.bF (f + 1) → sf j → sf' j) (kc : ∀ j v, D.bF f ≤ j → j < D.bF (f + 1) → cap j v → ∃ v', cap' j v' ∧ Z v v') :
    ∀ t v, LFP D f C c h0 Bs np pn ar by' sf cap t v → C.1 t = 4 ∧ (C.1 (c v) ≠ 1 → ∀ t', Z t t' → ∃ v', Z v v' ∧ LFP D f M m h0' Bs' np pn' ar' by' sf' cap' (m t') (m v')) := by
  intro t v k
  have lf := LFP.cls (D := D) (f := f) (G := M) (r := m) (h0 := h0') (Bs := Bs') (np := np) (pn := pn') (ar := ar') (by' := by') (sf := sf') (cap := cap') hm
  obtain ⟨LF, eL⟩ : ∃ LF : Nat → Nat → Prop, LF = LFP D f M m h0' Bs' np pn' ar' by' sf' cap' := ⟨_, rfl⟩
  rw [← eL] at lf ⊢
  obtain ⟨l1, l2, l3, l4⟩ := lf
  obtain ⟨z1, z2, z3, z4⟩ := id z
  have out : ∀ q x x' b, Z x x' → OUTq D f C c Bs (fun t v => C.1 t = 4 ∧ (C.1 (c v) ≠ 1 → ∀ t', Z t t' → ∃ v', Z v v' ∧ LF (m t') (m v'))) q x b → OUTq D f M m Bs' LF q x' b := fun q x x' b hx ho p p1 p2 p3 p4 => by
    obtain ⟨o1, o2⟩ := ho p p1 p2 p3 p4
    have e := z3 x x' hx
    refine ⟨?_, by omega⟩
    rcases RQ.zz (h' := fun t v => LF t (m v)) (B' := Bs' p) z hc (fun x y u zx ⟨_, k2⟩ k3 => by
      rw [hc] at k2
      obtain ⟨v', a1, a2⟩ := k2 k3 y (z2 x y (c x) y zx (hc x) rfl)
      exact ⟨v', a2, z2 (c u) v' u v' a1 (hc u).symm rfl⟩) (fun x u k => by rw [k.1]; decide) (fun b hb => kb p b p1 p2 hb) o1 with k | ⟨y, k1, k2⟩
    · omega
    · exact k2.cl ((z1 x y x x' k1 hx).mp rfl)
  refine k (fun t v => C.1 t = 4 ∧ (C.1 (c v) ≠ 1 → ∀ t', Z t t' → ∃ v', Z v v' ∧ LF (m t') (m v'))) ⟨fun t v e k => ⟨k0 t v e k, fun k1 t' zt => ?_⟩, fun j v j1 j2 cv k1 => ⟨(ka j j1 j2).1, fun _ t' zt => ?_⟩, fun j q i j1 j2 sp hi ho k1 => ⟨(ka j j1 j2).1, fun _ t' zt => ?_⟩, fun j q i j1 j2 sj q1 q2 hi ho k1 => ⟨(ka j j1 j2).1, fun _ t' zt => ?_⟩⟩
  · rw [hc] at k1
    obtain ⟨v', a1, a2⟩ := zh t t' v zt (by rw [e]; exact k) k1
    exact ⟨v', z2 v v' (c v) v' a2 (hc v) rfl, l1 (m t') v' (hm _) a1⟩
  · obtain ⟨v', a1, a2⟩ := kc j v j1 j2 cv
    have za := z2 _ _ (c (ar j)) (ar' j) (ka j j1 j2).2 (hc _) rfl
    rw [(z1 _ _ _ _ zt za).mp rfl]
    exact ⟨v', z2 v v' (c v) v' a2 (hc v) rfl, l2 j v' j1 j2 a1 (by rw [← z3 v v' a2]; exact k1)⟩
  · obtain ⟨b1, b2⟩ := hby j q j1 j2 sp
    have zp := kp q i b1 b2 hi
    have za := z2 _ _ (c (ar j)) (ar' j) (ka j j1 j2).2 (hc _) rfl
    rw [(z1 _ _ _ _ zt za).mp rfl]
    exact ⟨pn' q i, z2 _ _ (c (pn q i)) _ zp (hc _) rfl, l3 j q i j1 j2 sp hi (out q _ _ _ zp ho) (by rw [← z3 _ _ zp]; exact k1)⟩
  · have zp := kp q i q1 q2 hi
    have za := z2 _ _ (c (ar j)) (ar' j) (ka j j1 j2).2 (hc _) rfl
    rw [(z1 _ _ _ _ zt za).mp rfl]
    exact ⟨pn' q i, z2 _ _ (c (pn q i)) _ zp (hc _) rfl, l4 j q i j1 j2 (ks j j1 j2 sj) q1 q2 hi (out q _ _ _ zp ho) (by rw [← z3 _ _ zp]; exact k1)⟩
end LFPZ
section INTZ
variable {D : pgD} {Gs : sgD} {f : Nat} {σ τ : tvS} {T : tyJ} {tg : Nat → Nat}
/-- the component's types of what a part puts -/
def pnC (D : pgD) (σ : tvS) (p i : Nat) : Nat := if D.K p = 4 ∨ D.K p = 16 ∨ D.K p = 17 then oT σ p else cT σ p (D.bk (D.vl p) + 1 + i)
/-- mates of what both have of a function -/
def MTf (D : pgD) (Gs : sgD) (f : Nat) (Z : Nat → Nat → Prop) (σ τ : tvS) : Prop := (∀ p, D.bP f ≤ p → p < D.bP (f + 1) → Z (oT σ p) (oM τ p)) ∧ (∀ p v, D.bP f ≤ p → p < D.bP (f + 1) → v ∈ D.sl p → Z (vT σ v) (vM τ v)) ∧ Z (rT σ f) (rM τ f) ∧ ∀ q i, D.bP f ≤ q → q < D.bP (f + 1) → i < D.np Gs f q → Z (pnC D σ q i) (pnM D τ q i)
theorem int_m {h0' : Nat → Nat → Prop} (hI : ITP D Gs f (D.bP (f + 1)) (D.bP (f + 1)) (D.bP (f + 1)) T σ tg) (z : zG (yG T) (yC T) T.2.1.2.1 T.2.1.2.2.1 T.2.2) (z0 : T.2.2 0 0) (hc : ∀ x, yC T (yC T x) = yC T x) (zk : ∀ x, 2 ≤ (yG T).1 x → (yG T).1 (yC T x) = (yG T).1 x) (hcl : gP (yG T) (yC T)) (h1 : ∀ x, (yG T).1 x = 1 ↔ x = 0) (hc0 : yC T 0 = 0) (hr : ∀ x, T.2.1.2.2.1 (T.2.1.2.2.1 x) = T.2.1.2.2.1 x)
    (zh : ∀ x y u, T.2.2 x y → yH T (yC T x) u → (yG T).1 (yC T u) ≠ 1 → ∃ v, h0' (T.2.1.2.2.1 y) v ∧ T.2.2 u v) (kh : ∀ x u, yH T (yC T x) u → (yG T).1 (yC T x) = 4) (hM : MTf D Gs f T.2.2 σ τ) (hB : BXm D Gs f T.2.1.2.1 T.2.1.2.2.1 τ) : INTm D Gs f T.2.1.2.1 T.2.1.2.2.1 h0' τ := by
  intro p q1 q2 i1 i2 p1 p2 a1 a2 b1 b2 hi1 hi2 e s1 s2
  obtain ⟨z1, z2, z3, z4⟩ := id z
  have cg : ∀ x y, yC T x = yC T y → ((yG T).1 (yC T x) = 1 ∨ ∃ w, T.2.2 x w ∧ RQ T.2.1.2.1 T.2.1.2.2.1 h0' (Bsm D f τ p) w) → ((yG T).1 (yC T y) = 1 ∨ ∃ w, T.2.2 y w ∧ RQ T.2.1.2.1 T.2.1.2.2.1 h0' (Bsm D f τ p) w) := fun x y e k => by
    rcases k with k | ⟨w, k1, k2⟩
    · exact .inl (by rw [← e]; exact k)
    · exact .inr ⟨w, z2 x w y w k1 e.symm rfl, k2⟩
  have X : ITc D f (D.bP (f + 1)) (D.bP (f + 1)) T σ p (fun x => (yG T).1 (yC T x) = 1 ∨ ∃ y, T.2.2 x y ∧ RQ T.2.1.2.1 T.2.1.2.2.1 h0' (Bsm D f τ p) y) := by
    refine ⟨⟨cg, fun x hx k hk => ?_⟩, fun x u k hu => ?_, .inl ((h1 _).mpr hc0), fun _ => .inr ⟨_, hM.1 p p1 p2, RQ.base (.inl rfl)⟩, fun v hv _ => .inr ⟨_, hM.2.1 p v p1 p2 hv, RQ.base (.inr (.inl ⟨v, hv, rfl⟩))⟩, .inr ⟨_, hM.2.2.1, RQ.base (.inr (.inr rfl))⟩⟩
    · have ek := zk x hk
      rcases k with k | ⟨w, k1, k2⟩
      · omega
      · have e := z3 x w k1
        obtain ⟨c1, c2⟩ := z4 x w k1 (by omega)
        have cl := hcl.2.2.1 (yC T x) x (hc x) (by omega) ek
        have km : ∀ w', w' ∈ (if T.2.1.2.1.1 (T.2.1.2.2.1 w) = 3 then [T.2.1.2.1.2.1 (T.2.1.2.2.1 w)] else [T.2.1.2.1.2.2 (T.2.1.2.2.1 w), T.2.1.2.1.2.1 (T.2.1.2.2.1 w)]) → RQ T.2.1.2.1 T.2.1.2.2.1 h0' (Bsm D f τ p) w' := fun w' hw' => k2.kid (by omega) hw'
        by_cases c3 : (yG T).1 x = 3
        · refine ⟨cg _ _ cl.1 (.inr ⟨_, c1, km _ (by rw [if_pos (by omega)]; exact List.mem_cons_self)⟩), fun k => absurd c3 k⟩
        · rw [if_neg (by omega)] at km
          exact ⟨cg _ _ cl.1 (.inr ⟨_, c1, km _ (List.mem_cons_of_mem _ List.mem_cons_self)⟩), fun _ => cg _ _ (cl.2 (by omega)) (.inr ⟨_, c2 (by omega), km _ List.mem_cons_self⟩)⟩
    · have k4 := kh x u hu
      rcases k with k | ⟨w, k1, k2⟩
      · omega
      · by_cases c1 : (yG T).1 (yC T u) = 1
        · exact .inl c1
        · obtain ⟨v, v1, v2⟩ := zh x w u k1 hu c1
          exact .inr ⟨v, v2, k2.held v1⟩
  obtain ⟨I1, I2, I3, I4, I5, I6⟩ := hI p _ p1 p2 X
  have zp1 := hM.2.2.2 q1 i1 a1 a2 hi1
  have zp2 := hM.2.2.2 q2 i2 b1 b2 hi2
  have ec : yC T (pnC D σ q1 i1) = yC T (pnC D σ q2 i2) := (z1 _ _ _ _ zp1 zp2).mpr e
  have fin : ((yG T).1 (yC T (pnC D σ q1 i1)) = 1 ∨ ∃ y, T.2.2 (pnC D σ q1 i1) y ∧ RQ T.2.1.2.1 T.2.1.2.2.1 h0' (Bsm D f τ p) y) → RQ T.2.1.2.1 T.2.1.2.2.1 h0' (Bsm D f τ p) (pnM D τ q1 i1) := fun k => by
    rcases k with k | ⟨w, k1, k2⟩
    · have := hB q1 i1 a1 a2 hi1
      have := z3 _ _ zp1
      omega
    · exact k2.cl ((z1 _ _ _ _ k1 zp1).mp rfl)
  have ok : ∀ q i, D.bP f ≤ q → q < D.bP (f + 1) → i < D.np Gs f q → okn D p (fun x => (yG T).1 (yC T x) = 1 ∨ ∃ y, T.2.2 x y ∧ RQ T.2.1.2.1 T.2.1.2.2.1 h0' (Bsm D f τ p) y) tg q (pnC D σ q i) := fun q i h1 h2 hi => by
    unfold pgD.np at hi
    unfold pnC
    by_cases k : D.K q = 4 ∨ D.K q = 16 ∨ D.K q = 17
    · rw [if_pos k]; exact I4 q h1 h2
    · rw [if_neg k] at hi ⊢
      by_cases k3 : D.K q = 3 ∧ D.vl q < f
      · rw [if_pos k3] at hi
        have hcn : D.cn Gs q = D.bk (D.vl q) + 1 + Gs.ng (D.vl q) := rfl
        exact I6 q _ h1 h2 k3.1 k3.2 (by omega)
      · rw [if_neg k3] at hi; omega
  rcases I1 _ _ ec with k | k
  · exact fin k
  · rcases ok q1 i1 a1 a2 hi1 with o | o
    · exact fin o
    · rcases ok q2 i2 b1 b2 hi2 with o2 | o2
      · exact fin (cg _ _ ec.symm o2)
      · exact absurd (o2.mp (k.mp (o.mpr s1))) s2
end INTZ
section LFPC
variable {D : pgD} {m f n : Nat} {σ0 : tvS} {C : tG} {c : Nat → Nat} {pe ar : Nat → Nat} {ow : Nat → Int}
theorem lfp_c {pt by' fr np sv : Nat → Nat} {pn : Nat → Nat → Nat} {h h0 : Nat → Nat → Prop} {cap : Nat → Nat → Prop} (hI : ∀ x, c (c x) = c x) (hF : PGF D m) (hf : f ≤ D.fc) (hpt : FNP D f pt by') (hfr : FRm D f n fr σ0) (hPU : PUTS D f n fr pe np pn) (hge : hGe c h0 h) (hcap : ∀ j v, D.bF f ≤ j → j < D.bF (f + 1) → cap j v → Hd C c h (ar j) v)
    (hO : ∀ k, fr (D.bP f) ≤ k → k < n → OWp D f fr (fun p => rBx D f C c h σ0 p (pe k)) (D.bP (f + 1)) k (ow k))
    (hH : ∀ j', D.bF f ≤ j' → j' < D.bF (f + 1) → (∀ q, fr (D.st (by' j')) ≤ q → q < fr (by' j' + 1) → (ow q = -1 ∨ (by' j' : Int) < ow q) → Hd C c h (ar j') (pe q)) ∧ (sv (by' j' + 1) ≠ sv (D.st (by' j')) → ∀ q, fr (D.bP f) ≤ q → q < n → ow q = -1 → Hd C c h (ar j') (pe q))) :
    ∀ t v, LFP D f C c h0 (Bsh D f σ0) np pn ar by' (fun j => sv (by' j + 1) ≠ sv (D.st (by' j))) cap t v → hQ c h t v := by
  have hPf := hF.2.2 f hf
  obtain ⟨f1, f2, f3, f4⟩ := id hfr
  intro t v k
  have ow' : ∀ q i b, D.bP f ≤ q → q < D.bP (f + 1) → i < np q → OUTq D f C c (Bsh D f σ0) (hQ c h) q (pn q i) b → fr (D.bP f) ≤ fr q + i ∧ fr q + i < n ∧ pe (fr q + i) = pn q i ∧ (ow (fr q + i) = -1 ∨ (b : Int) < ow (fr q + i)) := fun q i b q1 q2 hi ho => by
    have e1 := hPU.1 q q1 q2
    have e2 := hPU.2 q i q1 q2 hi
    have l1 := f2 (D.bP f) q (Nat.le_refl _) q1 (by omega)
    have l2 := f2 (q + 1) (D.bP (f + 1)) (by omega) (by omega) (Nat.le_refl _)
    rw [f3] at l2
    refine ⟨by omega, by omega, e2, (OWp.out (b := b) hPU f2 hPf q1 q2 hi rfl (hO (fr q + i) (by omega) (by omega))).mpr (fun p p1 p2 p3 p4 => ?_)⟩
    obtain ⟨o1, o2⟩ := ho p p1 p2 p3 p4
    rw [e2]
    exact ⟨hQ.to hI o1, o2⟩
  refine k (hQ c h) ⟨fun t v e k => ⟨v, hge t v e k, rfl⟩, fun j v j1 j2 cv hk => (hcap j v j1 j2 cv).resolve_left hk, fun j q i j1 j2 sp hi ho hk => ?_, fun j q i j1 j2 sj q1 q2 hi ho hk => ?_⟩
  · obtain ⟨p1, p2, p3, p4, p5⟩ := hpt j j1 j2
    have kk := contN.at _ _ _ _ _ (hPf.2.2.1 _ p1 p2).2.1 p5
    have hlo := (hPf.2.2.1 _ p1 p2).1.2.2.1
    have hb := hPf.2.2.1 (by' j) (by omega) (by omega)
    have g4 := hb.1.2.2.1
    have g5 := hb.1.2.2.2
    have s1 := sp.1
    have s2 := sp.2
    obtain ⟨a1, a2, a3, a4⟩ := ow' q i (by' j) (by omega) (by omega) hi ho
    have hin := (hPU.in f2 (p := by' j) g4 g5 (by omega) (show D.bP f ≤ q by omega) (by omega) hi).mpr sp
    have := (hH j j1 j2).1 _ hin.1 hin.2 a4
    rw [a3] at this
    exact this.resolve_left hk
  · obtain ⟨a1, a2, a3, a4⟩ := ow' q i (D.bP (f + 1)) q1 q2 hi ho
    have hm1 : ow (fr q + i) = -1 := by
      rcases a4 with k | k
      · exact k
      · rcases hO _ a1 a2 with ⟨b1, _⟩ | ⟨p0, b1, b2, b3, _⟩
        · exact b1
        · omega
    have := (hH j j1 j2).2 sj _ a1 a2 hm1
    rw [a3] at this
    exact this.resolve_left hk
end LFPC
