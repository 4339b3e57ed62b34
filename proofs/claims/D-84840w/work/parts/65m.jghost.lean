/-! RUNS, BOTH: what comes of a part that begins, the ghost -/
section JGHOST
variable {D : pgD} {m : Nat} {rg : rgD} {cd : cdD} {T : tsD} {vd W : Nat → Nat} {M wd pgs ev : Nat} {X X' : dyD} {K K' : List (Nat × Nat × Nat)} {i : Nat} {E : Nat → trE} {n : Nat} {ty : Nat → trE} {nr : Nat} {av : Nat → Prop} {st w p : Nat} {x : obD}
theorem kids_facts (K' : List (Nat × Nat × Nat)) : ∀ l : List Nat, (∀ k, k ∈ l → lu D K' + W k ≤ M) → SPI D W M K' → SPI D W M (l.map (fun k => (0, k, 0)) ++ K') ∧ lu D (l.map (fun k => (0, k, 0)) ++ K') = lu D K' ∧ opN (l.map (fun k => (0, k, 0)) ++ K') = opN K' ∧ nE (l.map (fun k => (0, k, 0)) ++ K') = nE K' ∧ nR (l.map (fun k => (0, k, 0)) ++ K') = nR K' ∧ wtK (l.map (fun k => (0, k, 0)) ++ K') = wtK K' ∧ (okF D M K' → okF D M (l.map (fun k => (0, k, 0)) ++ K')) ∧ (EOK D K' → EOK D (l.map (fun k => (0, k, 0)) ++ K')) := by
  intro l
  induction l with
  | nil => intro _ h; exact ⟨h, rfl, rfl, rfl, rfl, rfl, id, id⟩
  | cons k l ih =>
    intro hl h
    obtain ⟨a1, a2, a3, a4, a5, a6, a7, a8⟩ := ih (fun k' hk' => hl k' (List.mem_cons_of_mem _ hk')) h
    obtain ⟨Q, hQ⟩ : ∃ Q, Q = l.map (fun k => ((0, k, 0) : Nat × Nat × Nat)) ++ K' := ⟨_, rfl⟩
    have e : (k :: l).map (fun k => ((0, k, 0) : Nat × Nat × Nat)) ++ K' = (0, k, 0) :: Q := by rw [hQ]; rfl
    rw [← hQ] at a1 a2 a3 a4 a5 a6 a7 a8
    rw [e]
    have eL : lu D ((0, k, 0) :: Q) = if 0 = 8 then 0 else (if 0 = 7 then cwt D k else 0) + lu D Q := rfl
    have o1 : opN ((0, k, 0) :: Q) = (if 1 ≤ 0 ∧ 0 ≤ 6 then 1 else 0) + opN Q := rfl
    have o2 : nE ((0, k, 0) :: Q) = (if 0 = 7 then 1 else 0) + nE Q := rfl
    have o3 : nR ((0, k, 0) :: Q) = (if 0 = 8 then 1 else 0) + nR Q := rfl
    rw [if_neg (by omega)] at o1 o2 o3
    rw [if_neg (by omega), if_neg (by omega)] at eL
    refine ⟨⟨fun _ => ?_, a1⟩, by omega, by omega, by omega, by omega, by rw [wtK_0]; exact a6, fun h8 => ⟨fun e => absurd (show (0 : Nat) = 8 from e) (by decide), a7 h8⟩, fun h8 e he => ?_⟩
    · show lu D Q + W k ≤ M
      rw [a2]; exact hl k List.mem_cons_self
    · rcases List.mem_cons.mp he with z | z
      · subst z; exact ⟨fun e => absurd (show 1 ≤ (0 : Nat) from e) (by decide), fun e => absurd (show (0 : Nat) = 5 from e) (by decide)⟩
      · exact a8 h8 e z
/-- its parts are planned -/
theorem BGI.kids (hE : ENV D m rg cd T vd W M wd pgs ev) (hB : BGI D rg cd T vd W M wd X p K i E n ty nr av st) (hw : WKK w (D.K p)) : RGI D rg cd T vd W M wd X (plK D w p 0 ((7, p, n) :: K)) i E n ty nr av n (D.sl p).length st ∧ wtK (plK D w p 0 ((7, p, n) :: K)) ≤ wtK K + 4 := by
  obtain ⟨⟨h1, h2, h3⟩, hv, hH, hf, ⟨c1, c2, c3, c4, c5, c6⟩, g1, g2, g3, ⟨g4, g4'⟩, g5⟩ := hB
  obtain ⟨f1, f2, f3, _⟩ := h1.1
  have hPF := (hE.1.1.2.2 _ f1).2.2.1 p f2 f3
  have hww : 1 ≤ w ∧ w ≤ 6 := by rcases hw with ⟨q, _⟩ | ⟨q, _⟩ | ⟨q, _⟩ | ⟨q, _⟩ | ⟨q, _⟩ | ⟨q, _⟩ <;> omega
  have hT := T_kids (K := K) hE.1 hH.1 (by omega) hw h1 h2 h3 (wkN D w p) 0 ty (by omega) (fun _ _ => rfl) (fun j' k hj => by omega)
  rw [Nat.add_zero] at hT
  have e0 : plK D w p 0 ((7, p, n) :: K) = ((D.kd p).take (wkN D w p)).map (fun k => ((0, k, 0) : Nat × Nat × Nat)) ++ ((w, p, 0) :: (7, p, n) :: K) := rfl
  have eL7 : lu D ((7, p, n) :: K) = if 7 = 8 then 0 else (if 7 = 7 then cwt D p else 0) + lu D K := rfl
  rw [if_neg (by omega), if_pos rfl] at eL7
  have eLw : lu D ((w, p, 0) :: (7, p, n) :: K) = if w = 8 then 0 else (if w = 7 then cwt D p else 0) + lu D ((7, p, n) :: K) := rfl
  rw [if_neg (by omega), if_neg (by omega)] at eLw
  have s7 : SPI D W M ((7, p, n) :: K) := ⟨fun _ => g4, g4'⟩
  have sw : SPI D W M ((w, p, 0) :: (7, p, n) :: K) := ⟨fun e => by have e : w = 0 ∨ w = 7 := e; omega, s7⟩
  obtain ⟨a1, a2, a3, a4, a5, a6, a7, a8⟩ := kids_facts (D := D) (W := W) (M := M) ((w, p, 0) :: (7, p, n) :: K) ((D.kd p).take (wkN D w p)) (fun k hk => by
    obtain ⟨j, hj⟩ := List.mem_iff_getElem?.mp (List.mem_of_mem_take hk)
    have := hE.2.1.1 _ p j k f1 f2 f3 hj
    omega) sw
  rw [← e0] at a1 a2 a3 a4 a5 a6 a7 a8
  have o1 : opN ((w, p, 0) :: (7, p, n) :: K) = (if 1 ≤ w ∧ w ≤ 6 then 1 else 0) + ((if 1 ≤ 7 ∧ 7 ≤ 6 then 1 else 0) + opN K) := rfl
  have o2 : nE ((w, p, 0) :: (7, p, n) :: K) = (if w = 7 then 1 else 0) + ((if 7 = 7 then 1 else 0) + nE K) := rfl
  have o3 : nR ((w, p, 0) :: (7, p, n) :: K) = (if w = 8 then 1 else 0) + ((if 7 = 8 then 1 else 0) + nR K) := rfl
  have o4 : wtK ((w, p, 0) :: (7, p, n) :: K) = (if w = 0 then 0 else if w = 5 ∨ w = 6 then 3 else 1) + ((if 7 = 0 then 0 else if 7 = 5 ∨ 7 = 6 then 3 else 1) + wtK K) := rfl
  rw [if_pos hww, if_neg (by omega)] at o1
  rw [if_neg (by omega), if_pos rfl] at o2
  rw [if_neg (by omega), if_neg (by omega)] at o3
  rw [if_neg (show ¬ w = 0 by omega), if_neg (show ¬ (7 : Nat) = 0 by omega), if_neg (show ¬ ((7 : Nat) = 5 ∨ 7 = 6) by omega)] at o4
  refine ⟨⟨hT, Nat.le_refl _, hv, hH, hf, ⟨by omega, by omega, c3, c4, c5, c6⟩, ?_, by omega, a7 ⟨fun e => by have e : w = 8 := e; omega, fun e => absurd (show (7 : Nat) = 8 from e) (by decide), g3⟩, a1, a8 (fun e he => ?_)⟩, ?_⟩
  · rw [e0]
    refine KGr.kids _ _ 0 1 (.inr (.inr (.inr ⟨hww.1, hww.2, ?_, ⟨n, K, rfl⟩, .inr (.inl ⟨rfl, Nat.le_refl _, KGr.down _ _ _ g1⟩)⟩)))
    have := List.length_take_le (wkN D w p) (D.kd p)
    omega
  · rcases List.mem_cons.mp he with z | z
    · subst z
      refine ⟨fun _ _ h5 => ?_, fun h5 => ?_⟩
      · have h5 : ¬ w = 5 := h5
        show wkN D w p ≤ 2
        unfold wkN
        by_cases c : w = 2 ∨ w = 3 ∨ w = 4
        · rw [if_pos c]; omega
        · rw [if_neg c, hPF.2.2.1 (by rcases hw with ⟨_, q⟩ | ⟨_, q⟩ | ⟨_, q⟩ | ⟨_, q⟩ | ⟨_, q⟩ | ⟨_, q⟩ <;> omega)]
          have : D.K p = 4 ∨ D.K p = 5 ∨ D.K p = 6 ∨ D.K p = 7 ∨ D.K p = 8 ∨ D.K p = 9 ∨ D.K p = 10 ∨ D.K p = 11 ∨ D.K p = 12 ∨ D.K p = 13 ∨ D.K p = 14 ∨ D.K p = 15 ∨ D.K p = 16 := by rcases hw with ⟨_, q⟩ | ⟨_, q⟩ | ⟨_, q⟩ | ⟨_, q⟩ | ⟨_, q⟩ | ⟨_, q⟩ <;> omega
          rcases this with q | q | q | q | q | q | q | q | q | q | q | q | q <;> rw [q] <;> decide
      · have h5 : w = 5 := h5
        have hk3 : D.K p = 3 := by rcases hw with ⟨_, q⟩ | ⟨_, q⟩ | ⟨_, q⟩ | ⟨_, q⟩ | ⟨_, q⟩ | ⟨_, q⟩ <;> omega
        obtain ⟨_, q2, q3, q4⟩ := hPF.2.2.2.1 hk3
        have := (hE.1.1.2.2 (D.vl p) (by omega)).1.2.2.2
        exact ⟨hk3, by show (D.kd p).length ≤ 5; omega⟩
    · rcases List.mem_cons.mp z with z | z
      · subst z; exact ⟨fun _ e => absurd (show (7 : Nat) ≤ 6 from e) (by decide), fun e => absurd (show (7 : Nat) = 5 from e) (by decide)⟩
      · exact g5 e z
  · rw [a6, o4]
    split <;> omega
theorem BGI.ends7 (hB : BGI D rg cd T vd W M wd X p K i E n ty nr av st) : (KGr D ((7, p, n) :: K) 0 1 ∧ nR ((7, p, n) :: K) = i ∧ okF D M ((7, p, n) :: K) ∧ SPI D W M ((7, p, n) :: K) ∧ EOK D ((7, p, n) :: K)) ∧ opN ((7, p, n) :: K) = opN K ∧ nE ((7, p, n) :: K) = nE K + 1 ∧ wtK ((7, p, n) :: K) ≤ wtK K + 4 := by
  obtain ⟨_, _, _, _, _, g1, g2, g3, ⟨g4, g4'⟩, g5⟩ := hB
  have o1 : opN ((7, p, n) :: K) = ((if 1 ≤ 7 ∧ 7 ≤ 6 then 1 else 0) + opN K) := rfl
  have o2 : nE ((7, p, n) :: K) = ((if 7 = 7 then 1 else 0) + nE K) := rfl
  have o3 : nR ((7, p, n) :: K) = ((if 7 = 8 then 1 else 0) + nR K) := rfl
  have o4 : wtK ((7, p, n) :: K) = ((if 7 = 0 then 0 else if 7 = 5 ∨ 7 = 6 then 3 else 1) + wtK K) := rfl
  rw [if_neg (by omega)] at o1 o3
  rw [if_pos rfl] at o2
  rw [if_neg (show ¬ (7 : Nat) = 0 by omega), if_neg (show ¬ ((7 : Nat) = 5 ∨ 7 = 6) by omega)] at o4
  refine ⟨⟨.inr (.inl ⟨rfl, by omega, KGr.down _ _ _ g1⟩), by omega, ⟨fun e => absurd (show (7 : Nat) = 8 from e) (by decide), g3⟩, ⟨fun _ => g4, g4'⟩, fun e he => ?_⟩, by omega, by omega, by omega⟩
  rcases List.mem_cons.mp he with z | z
  · subst z; exact ⟨fun _ e => absurd (show (7 : Nat) ≤ 6 from e) (by decide), fun e => absurd (show (7 : Nat) = 5 from e) (by decide)⟩
  · exact g5 e z
/-- its value is there at once -/
theorem BGI.leaf {v : vaL} (hB : BGI D rg cd T vd W M wd X p K i E n ty nr av st) (hv : VTy D rg cd T X.hp X.no X.B v (E (T.oC p)) ∧ LVv X.hp X.no X.ser nr v ∧ v.1 ≤ 2) (hX : X' = (uq X.sv n v, X.2)) : RGI D rg cd T vd W M wd X' ((7, p, n) :: K) i E (n + 1) (uq ty n (E (T.oC p))) nr av n (D.sl p).length st := by
  obtain ⟨k1, k2, k3, k4⟩ := hB.ends7
  obtain ⟨⟨h1, h2, h3⟩, hv', hH, hf, ⟨c1, c2, c3, c4, c5, c6⟩, _⟩ := hB
  subst hX
  refine ⟨TK.to _ _ _ _ _ _ _ _ _ _ ⟨⟨hH.1, (show X.no ≤ 30001 by omega)⟩, fun k hk => uq_ne (by omega), fun _ _ _ => rfl, Nat.le_refl _, Nat.le_refl _, fun _ _ => rfl, fun _ _ => rfl, fun _ _ _ => rfl, fun _ _ => rfl, fun _ _ _ => rfl, fun _ _ => rfl⟩ (fun _ _ => rfl) (h3 (n + 1) (uq ty n (E (T.oC p))) (by omega) (fun k hk => uq_ne (by omega)) (by rw [Nat.add_sub_cancel, uq_self])), by omega, fun k hk => ?_, hH, hf, ⟨by rw [k2]; show X.no + opN K ≤ st; omega, by omega, c3, c4, c5, c6⟩, k1⟩
  show VTy D rg cd T X.hp X.no X.B (uq X.sv n v k) _ ∧ LVv X.hp X.no X.ser nr (uq X.sv n v k) ∧ (uq X.sv n v k).1 ≤ 2
  by_cases e : k = n
  · rw [e, uq_self, uq_self]; exact hv
  · rw [uq_ne e, uq_ne e]; exact hv' k (by omega)
/-- its value is an object that is made at once -/
theorem BGI.made (hB : BGI D rg cd T vd W M wd X p K i E n ty nr av st) (hW : WFo D rg cd x) (h17 : x.kd = 3 → ∃ f, f ≤ D.fc ∧ D.bP f ≤ x.pt ∧ x.pt < D.bP (f + 1) ∧ D.K x.pt = 17) (hs : szO x ≤ wd) (hc : ∀ w, w ∈ x.co → LVv X.hp X.no X.ser nr w) (hg : x.gi < nr ∧ X.ser x.gi = x.se) (hk : ∀ r s, (r, s) ∈ x.kp → r < nr ∧ X.ser r = s) (hT : VTy D rg cd T (uq X.hp (X.no + 1) x) (X.no + 1) X.B (2, i32 ((X.no + 1 : Nat) : Int)) (E (T.oC p))) (hX : X' = (uq X.sv n (2, i32 ((X.no + 1 : Nat) : Int)), (uq X.hp (X.no + 1) x, X.no + 1, X.B), X.2.2)) : RGI D rg cd T vd W M wd X' ((7, p, n) :: K) i E (n + 1) (uq ty n (E (T.oC p))) nr av n (D.sl p).length st := by
  obtain ⟨k1, k2, k3, k4⟩ := hB.ends7
  obtain ⟨⟨h1, h2, h3⟩, hv', hH, hf, ⟨c1, c2, c3, c4, c5, c6⟩, _⟩ := hB
  obtain ⟨e1, e2⟩ := made_vals (X' := X') (x := x) (t := E (T.oC p)) (Lv := n) (ty := ty) (nr := nr) hv' hH (by omega) hW h17 hs hc hg hk hT hX
  refine ⟨TK.to _ _ _ _ _ _ _ _ _ _ (NEWo.dyk (x := x) ?_ hH.1 (by omega)) (fun _ _ => rfl) (h3 (n + 1) (uq ty n (E (T.oC p))) (by omega) (fun k hk => uq_ne (by omega)) (by rw [Nat.add_sub_cancel, uq_self])), by omega, e1, e2, by rw [hX]; exact hf, ?_, k1⟩
  · rw [hX]; exact ⟨fun k hk => uq_ne (by omega), uq_self, rfl, rfl, rfl, rfl, rfl, rfl, rfl⟩
  · rw [hX]; exact ⟨by rw [k2]; exact c1, by omega, c3, c4, c5, c6⟩
end JGHOST
