/-! TYPES OF THE MODEL: a copy -/
section CPM
variable {L : Nat} {xs : Nat → Int32} {σ σ' : tvS}
/-- the row from a place on -/
def rowL (σ : tvS) : Nat → List Nat → Prop
  | _, [] => True
  | o, x :: r => rd σ 176 o = i32 (x : Int) ∧ rowL σ (o + 1) r
theorem rowL.congr : ∀ {Q : List Nat} {o : Nat}, rowL σ o Q → (∀ i, o ≤ i → i < o + Q.length → rd σ' 176 i = rd σ 176 i) → rowL σ' o Q := by
  intro Q
  induction Q with
  | nil => intro o _ _; exact trivial
  | cons x r ih =>
    intro o h g
    have hl : (x :: r).length = r.length + 1 := rfl
    exact ⟨by rw [g o (Nat.le_refl _) (by omega)]; exact h.1, ih h.2 (fun i h1 h2 => g i (by omega) (by omega))⟩
theorem rowL.snoc {x : Nat} : ∀ {Q : List Nat} {o : Nat}, rowL σ o Q → rd σ' 176 (o + Q.length) = i32 (x : Int) → (∀ i, o ≤ i → i < o + Q.length → rd σ' 176 i = rd σ 176 i) → rowL σ' o (Q ++ [x]) := by
  intro Q
  induction Q with
  | nil => intro o _ h _; exact ⟨h, trivial⟩
  | cons y r ih =>
    intro o h h1 g
    have hl : (y :: r).length = r.length + 1 := rfl
    exact ⟨by rw [g o (Nat.le_refl _) (by omega)]; exact h.1, ih h.2 (by rw [show o + 1 + r.length = o + (y :: r).length from by omega]; exact h1) (fun i h1 h2 => g i (by omega) (by omega))⟩
/-- those of the row that are no ints -/
def nz (Q : List Nat) : List Nat := Q.filter (fun x => decide (x ≠ 0))
theorem nz_mem {Q : List Nat} {x : Nat} : x ∈ nz Q ↔ x ∈ Q ∧ x ≠ 0 := by unfold nz; rw [List.mem_filter, decide_eq_true_eq]
theorem nz_app {Q R : List Nat} : nz (Q ++ R) = nz Q ++ nz R := List.filter_append Q R
theorem nz_one {x : Nat} (h : x ≠ 0) : nz [x] = [x] := by simp [nz, h]
theorem nz_zero : nz [0] = [] := rfl
/-- in memory: o, where the row at hand begins; Q, what it holds from there on; z: the int was met -/
def cmS (N0 S : Nat) (r : Nat → Nat) (N : Nat) (G : tG) (hl : Nat → List Nat) (hv : Nat → Nat) (H Sh : Nat) (im : Nat → Nat) (SL : List Nat) (cur : List Nat) (o : Nat) (Q : List Nat) (z : Prop) (σ : tvS) : Prop :=
  TMq (fun x => ∀ t, t ∈ cur ++ nz Q → im t ≠ x) N G r σ ∧ HM N r hl hv H σ ∧ MT N S σ ∧ MH N Sh σ ∧ rowL σ o Q ∧ (∀ t, t < N0 → (rd σ 171 t = i32 (S : Int) ↔ t ∈ SL ∨ (t = 0 ∧ z))) ∧ (∀ t, t ∈ SL → rd σ 173 t = i32 (im t : Int)) ∧ (z → rd σ 173 0 = 0) ∧ 0 ∉ SL
def FCM : List Nat := [166, 167, 168, 169, 170, 171, 172, 173, 176, 183]
/-- what stays while a copy is begun -/
def frCM (N : Nat) (σ σ' : tvS) : Prop := frM FCM [63] σ σ' ∧ (∀ i, i < N → rd σ' 166 i = rd σ 166 i ∧ rd σ' 167 i = rd σ 167 i ∧ rd σ' 168 i = rd σ 168 i ∧ rd σ' 170 i = rd σ 170 i ∧ rd σ' 183 i = rd σ 183 i)
theorem frCM.trans {N : Nat} {a b e : tvS} (h : frCM N a b) (g : frCM N b e) : frCM N a e := ⟨h.1.trans g.1, fun i hi => by
  obtain ⟨a1, a2, a3, a4, a5⟩ := h.2 i hi
  obtain ⟨b1, b2, b3, b4, b5⟩ := g.2 i hi
  exact ⟨b1.trans a1, b2.trans a2, b3.trans a3, b4.trans a4, b5.trans a5⟩⟩
theorem frM.CM {N : Nat} {S F : List Nat} (h : frM S F σ σ') (hs : (S.all fun k => inL FCM k) = true) (hf : (F.all fun k => inL [63] k) = true) (h2 : inL S 166 = false ∧ inL S 167 = false ∧ inL S 168 = false ∧ inL S 170 = false ∧ inL S 183 = false) : frCM N σ σ' :=
  ⟨h.sub hs hf, fun i _ => ⟨h.rd (j := 166) h2.1 i, h.rd (j := 167) h2.2.1 i, h.rd (j := 168) h2.2.2.1 i, h.rd (j := 170) h2.2.2.2.1 i, h.rd (j := 183) h2.2.2.2.2 i⟩⟩
/-- one is met: it gets its copy, and comes to the row -/
theorem meet_c {N0 S b1 b2 : Nat} {G0 : tG} {r : Nat → Nat} {hl0 : Nat → List Nat} {hv0 : Nat → Nat} {H0 : Nat} {RS : Nat → Prop} (hB : cpB N0 G0 r hl0 hv0 H0 RS b1 b2) (h0 : ∀ x, G0.1 x ≤ 4) (hi1 : ∀ x, G0.1 x = 1 ↔ x = 0) (hb : N0 + b1 < 99990) (hS2 : S < 2147483648)
    {N : Nat} {G : tG} {hl : Nat → List Nat} {hv : Nat → Nat} {H Sh : Nat} {im : Nat → Nat} {SL : List Nat} {PL : List (Nat × Nat)} {cur : List Nat} {o : Nat} {Q : List Nat} {z : Prop} (hI : cpI N0 G0 r hl0 hv0 H0 RS N G hl hv H im SL PL cur (nz Q)) (hM : cmS N0 S r N G hl hv H Sh im SL cur o Q z σ) (hoQ : o + Q.length < 100000) {t : Nat} (ht : RS t) (d : Nat) :
    ∃ (σ' : tvS) (N' : Nat) (G' : tG) (im' : Nat → Nat) (SL' Q' : List Nat) (z' : Prop), rn L xs (d + 3) 339 0 [.ref 123, .int (i32 t), .int (i32 (o + Q.length : Nat))] [] σ = some (.inl (some (.int (i32 (o + (Q ++ Q').length : Nat)))), σ') ∧ cpI N0 G0 r hl0 hv0 H0 RS N' G' hl hv H im' SL' PL cur (nz (Q ++ Q')) ∧ cmS N0 S r N' G' hl hv H Sh im' SL' cur o (Q ++ Q') z' σ' ∧ (t ∈ SL' ∨ (t = 0 ∧ z')) ∧ N ≤ N' ∧ (∀ s, s ∈ SL → s ∈ SL' ∧ im' s = im s) ∧ (z → z') ∧ (∀ x, x < N → G'.1 x = G.1 x ∧ G'.2.1 x = G.2.1 x ∧ G'.2.2 x = G.2.2 x) ∧ (Q' = [] ∨ (Q' = [t] ∧ (SL'.length = SL.length + 1 ∨ (t = 0 ∧ ¬ z ∧ z' ∧ SL' = SL)))) ∧ (∀ s, s ∈ SL' → s ∈ SL ∨ s = t) ∧ frCM N σ σ' := by
  obtain ⟨i1, i2, i3, i4, i5, i6, i7, i8, i9, i10, i11, i12, i13, i14, i15, i16⟩ := id hI
  obtain ⟨m1, m2, m3, m4, m5, m6, m7, m8, m9⟩ := id hM
  obtain ⟨q1, q2, q3, q4⟩ := hB.1 t ht
  have hN := m1.2.2.1
  have hSLb : SL.length ≤ b1 := hB.2.1 SL i2 (fun t ht => ⟨(i3 t ht).1, (i3 t ht).2.1⟩)
  have k4 := h0 t
  have tN : t < N := by omega
  rw [e339_0 (d + 2), c_in (by omega) (by omega) (by omega), i32_ixn (by omega), m3.1]
  by_cases c1 : rd σ 171 t = i32 (S : Int)
  · rw [show pv_c2 .ne (rd σ 171 t) (i32 (S : Int)) = false from decide_eq_false (fun k => k c1), cond_false]
    refine ⟨σ, N, G, im, SL, [], z, by rw [List.append_nil], by rw [List.append_nil]; exact hI, by rw [List.append_nil]; exact hM, (m6 t q1).mp c1, Nat.le_refl _, fun s hs => ⟨hs, rfl⟩, id, fun x _ => ⟨rfl, rfl, rfl⟩, .inl rfl, fun s hs => .inl hs, ⟨frM.refl, fun _ _ => ⟨rfl, rfl, rfl, rfl, rfl⟩⟩⟩
  · have nS : ¬ (t ∈ SL ∨ (t = 0 ∧ z)) := fun k => c1 ((m6 t q1).mpr k)
    rw [show pv_c2 .ne (rd σ 171 t) (i32 (S : Int)) = true from decide_eq_true c1, cond_true, e339_15 (d + 2), e338_0 (d + 1), c_in (by omega) (by omega) (by omega), c_in (by omega) (by omega) (by omega), i32_ixn (by omega), m3.1, (m1.2.2.2.2.2.1 t tN).1, (i10 t q1).1, show (1 : Int32) = i32 1 from rfl, c2_ne (by omega) (by omega) (by omega) (by omega)]
    have w1 : frM [171] [] σ (wr σ 171 t (i32 (S : Int))) := frM_wr rfl (by decide)
    have M1 : MT N S (wr σ 171 t (i32 (S : Int))) := ⟨by rw [w1.2 72 rfl]; exact m3.1, fun y hy => ⟨by
      rw [rd_wr]
      by_cases e : y = t
      · rw [if_pos ⟨rfl, e⟩]; exact ⟨S, Nat.le_refl _, rfl⟩
      · rw [if_neg (fun k => e k.2)]; exact (m3.2 y hy).1, by rw [w1.rd (j := 172) rfl]; exact (m3.2 y hy).2⟩⟩
    have eN : i32 ((o + Q.length : Nat) : Int) + i32 1 = i32 ((o + (Q ++ [t]).length : Nat) : Int) := by
      rw [i32_add, List.length_append]; congr 1
    by_cases c2 : G0.1 t = 1
    · -- the int
      have t0 : t = 0 := (hi1 t).mp c2
      rw [c_f (by omega), e338_41, c_in (by omega) (by omega) (by omega), i32_ixn (by omega), bI_ok rfl, c_in (by omega) (by omega) (by omega), i32_ixn (by omega), eN]
      have w2 : frM [171, 173, 176] [] σ (wr (wr (wr σ 171 t (i32 (S : Int))) 173 t (i32 (t : Int))) 176 (o + Q.length) (i32 (t : Int))) := (w1.sub rfl rfl).trans ((frM_wr rfl (by decide)).trans (frM_wr rfl (by decide)))
      have nzE : nz (Q ++ [t]) = nz Q := by rw [nz_app, t0, nz_zero, List.append_nil]
      refine ⟨_, N, G, im, SL, [t], True, rfl, by rw [nzE]; exact hI, ⟨by rw [nzE]; exact m1.fr w2 rfl ⟨rfl, rfl, rfl, rfl⟩, m2.fr w2 rfl ⟨rfl, rfl, rfl⟩, (M1.fr ((frM_wr (S := [173, 176]) (F := []) rfl (by decide)).trans (frM_wr rfl (by decide))) rfl ⟨rfl, rfl⟩), m4.fr w2 rfl rfl, m5.snoc (wr_self _ _ _ _) (fun i _ h => by rw [wr_nei (by omega), wr_nek (by decide), wr_nek (by decide)]), fun s hs => ?_, fun s hs => ?_, fun _ => ?_, m9⟩, .inr ⟨t0, trivial⟩, Nat.le_refl _, fun s hs => ⟨hs, rfl⟩, fun _ => trivial, fun x _ => ⟨rfl, rfl, rfl⟩, .inr ⟨rfl, .inr ⟨t0, fun k => nS (.inr ⟨t0, k⟩), trivial, rfl⟩⟩, fun s hs => .inl hs, w2.CM rfl rfl ⟨rfl, rfl, rfl, rfl, rfl⟩⟩
      · rw [wr_nek (by decide), wr_nek (by decide), rd_wr]
        by_cases e : s = t
        · rw [if_pos ⟨rfl, e⟩]; exact ⟨fun _ => .inr ⟨e.trans t0, trivial⟩, fun _ => rfl⟩
        · rw [if_neg (fun k => e k.2), m6 s hs]
          exact ⟨fun k => k.elim .inl (fun k => absurd (k.1.trans t0.symm) e), fun k => k.elim .inl (fun k => absurd (k.1.trans t0.symm) e)⟩
      · rw [wr_nek (by decide), wr_nei (fun e => m9 (by rw [← t0, ← e]; exact hs)), wr_nek (by decide)]; exact m7 s hs
      · rw [wr_nek (by decide), t0, wr_self]; rfl
    · -- it gets a type of its own
      have t0 : t ≠ 0 := fun e => c2 ((hi1 t).mpr e)
      have hnS : t ∉ SL := fun k => nS (.inl k)
      have nd' : (t :: SL).Nodup := List.nodup_cons.mpr ⟨hnS, i2⟩
      have hlen : SL.length + 1 ≤ b1 := hB.2.1 (t :: SL) nd' (fun s hs => by
        rcases List.mem_cons.mp hs with e | e
        · rw [e]; exact ⟨ht, c2⟩
        · exact ⟨(i3 s e).1, (i3 s e).2.1⟩)
      have T1 := m1.fr w1 rfl ⟨rfl, rfl, rfl, rfl⟩
      obtain ⟨s2, a1, T2, H2, M2, h2, w2⟩ := add_m (L := L) (xs := xs) (K' := fun x => (∀ s, s ∈ cur ++ nz Q → im s ≠ x) ∧ x ≠ N) (k := G0.1 t) (a := 0) (b := 0) (x2 := i32 (-1)) (x3 := i32 (-1)) T1 (m2.fr w1 rfl ⟨rfl, rfl, rfl⟩) M1 (m4.fr w1 rfl rfl) (by omega) (i13 N (Nat.le_refl _)) k4 c2 (fun x _ h => h.1) (fun _ h => absurd rfl h.2) d jv
      have e166 : rd (wr σ 171 t (i32 (S : Int))) 166 t = i32 (G0.1 t : Int) := by rw [w1.rd (j := 166) rfl, (m1.2.2.2.2.2.1 t tN).1, (i10 t q1).1]
      rw [c_t (by omega), e338_29 (d + 1), c_in (by omega) (by omega) (by omega), i32_ixn (by omega), e166, i32_raw, bI_ok a1, e338_41, c_in (by omega) (by omega) (by omega), i32_ixn (by omega), bI_ok rfl, c_in (by omega) (by omega) (by omega), i32_ixn (by omega), eN]
      have w3 : frM [173, 176] [] s2 (wr (wr s2 173 t (i32 (N : Int))) 176 (o + Q.length) (i32 (t : Int))) := (frM_wr rfl (by decide)).trans (frM_wr rfl (by decide))
      have imO : ∀ s, s ∈ SL → upN im t N s = im s := fun s hs => if_neg (fun e : s = t => hnS (by rw [← e]; exact hs))
      have imN : upN im t N t = N := if_pos rfl
      have gO : ∀ x, x < N → (gAdd G N (G0.1 t) 0 0).1 x = G.1 x ∧ (gAdd G N (G0.1 t) 0 0).2.1 x = G.2.1 x ∧ (gAdd G N (G0.1 t) 0 0).2.2 x = G.2.2 x := fun x hx => ⟨if_neg (by omega), if_neg (by omega), if_neg (by omega)⟩
      have gN : (gAdd G N (G0.1 t) 0 0).1 N = G0.1 t := if_pos rfl
      have ext : ∀ s, s ∈ SL → s ∈ t :: SL ∧ upN im t N s = im s := fun s hs => ⟨List.mem_cons_of_mem _ hs, imO s hs⟩
      have nzE : nz (Q ++ [t]) = nz Q ++ [t] := by rw [nz_app, nz_one t0]
      have memE : ∀ s, s ∈ cur ++ (nz Q ++ [t]) ↔ s = t ∨ s ∈ cur ++ nz Q := fun s => by
        rw [← List.append_assoc, List.mem_append, List.mem_singleton, or_comm]
      have sN : ∀ s, s ∈ SL → s < N0 := fun s hs => (hB.1 s (i3 s hs).1).1
      have r171 : ∀ s, s < N → rd (wr (wr s2 173 t (i32 (N : Int))) 176 (o + Q.length) (i32 (t : Int))) 171 s = if s = t then i32 (S : Int) else rd σ 171 s := fun s hs => by
        rw [w3.rd (j := 171) rfl, w2.1 171 s (.inl (by omega)) (by omega), rd_wr]
        by_cases e : s = t
        · rw [if_pos ⟨rfl, e⟩, if_pos e]
        · rw [if_neg (fun k => e k.2), if_neg e]
      have r176 : ∀ i, i ≠ o + Q.length → rd (wr (wr s2 173 t (i32 (N : Int))) 176 (o + Q.length) (i32 (t : Int))) 176 i = rd σ 176 i := fun i hi => by
        rw [wr_nei hi, wr_nek (by decide), w2.1 176 i (.inr rfl) (by omega), wr_nek (by decide)]
      refine ⟨_, N + 1, gAdd G N (G0.1 t) 0 0, upN im t N, t :: SL, [t], z, rfl, ?_, ⟨?_, H2.fr w3 rfl ⟨rfl, rfl, rfl⟩, M2.fr w3 rfl ⟨rfl, rfl⟩, h2.fr w3 rfl rfl, m5.snoc (wr_self _ _ _ _) (fun i _ h => r176 i (by omega)), fun s hs => ?_, fun s hs => ?_, fun hz => ?_, fun h => ?_⟩, .inl List.mem_cons_self, by omega, ext, id, gO, .inr ⟨rfl, .inl rfl⟩, fun s hs => (List.mem_cons.mp hs).elim .inr .inl, ?_⟩
      · rw [nzE]
        refine ⟨by rw [i1, List.length_cons]; omega, nd', fun s hs => ?_, fun s s' hs hs' he => ?_, fun x h1 h2 => ?_, fun s hs => ?_, ?_, fun s hs hns => ?_, fun s hs => ?_, fun x hx => ?_, i11, i12, fun s hs => i13 s (by omega), i14, i15, fun p hp => ?_⟩
        · rcases List.mem_cons.mp hs with e | e
          · rw [e, imN, gN]; exact ⟨ht, c2, by omega, by omega, rfl⟩
          · obtain ⟨y1, y2, y3, y4, y5⟩ := i3 s e
            rw [imO s e]
            exact ⟨y1, y2, y3, by omega, by rw [(gO _ y4).1]; exact y5⟩
        · rcases List.mem_cons.mp hs with e | e <;> rcases List.mem_cons.mp hs' with e' | e'
          · rw [e, e']
          · rw [e, imN, imO s' e'] at he
            have := (i3 s' e').2.2.2.1; omega
          · rw [e', imN, imO s e] at he
            have := (i3 s e).2.2.2.1; omega
          · rw [imO s e, imO s' e'] at he; exact i4 s s' e e' he
        · by_cases e : x = N
          · exact ⟨t, List.mem_cons_self, by rw [imN, e]⟩
          · obtain ⟨s, y1, y2⟩ := i5 x h1 (by omega)
            exact ⟨s, List.mem_cons_of_mem _ y1, by rw [imO s y1]; exact y2⟩
        · rcases (memE s).mp hs with e | e
          · rw [e]; exact List.mem_cons_self
          · exact List.mem_cons_of_mem _ (i6 s e)
        · rw [← List.append_assoc]
          exact List.nodup_append.mpr ⟨i7, List.nodup_cons.mpr ⟨fun k => (by cases k), List.nodup_nil⟩, fun a ha b hb e => hnS (by rw [← List.mem_singleton.mp hb, ← e]; exact i6 a ha)⟩
        · have hnu : s ≠ t := fun e => hns ((memE s).mpr (.inl e))
          have hsS : s ∈ SL := (List.mem_cons.mp hs).elim (fun e => absurd e hnu) id
          obtain ⟨y1, y2, y3⟩ := i8 s hsS (fun h => hns ((memE s).mpr (.inr h)))
          have him := (i3 s hsS).2.2.2.1
          rw [imO s hsS, (gO _ him).2.1, (gO _ him).2.2]
          refine ⟨fun h => ⟨(y1 h).1.mono ext, fun h3 => ((y1 h).2 h3).mono ext⟩, fun i hi hk => ?_, fun j hj => ?_⟩
          · obtain ⟨j, y4, y5⟩ := y2 i hi hk
            exact ⟨j, y4, y5.mono ext⟩
          · obtain ⟨i, y4, y5, y6⟩ := y3 j hj
            exact ⟨i, y4, y5, y6.mono ext⟩
        · rcases List.mem_append.mp hs with e | e
          · rw [imO s (i6 s (List.mem_append_right _ e))]; exact i9 s e
          · rw [List.mem_singleton.mp e, imN]; exact i13 N (Nat.le_refl _)
        · rw [(gO x (by omega)).1, (gO x (by omega)).2.1, (gO x (by omega)).2.2]; exact i10 x hx
        · obtain ⟨y1, y1', y2, y3, y4, j, y5, y6⟩ := i16 p hp
          exact ⟨List.mem_cons_of_mem _ y1, List.mem_cons_of_mem _ y1', y2, y3, y4, j, by rw [imO _ y1]; exact y5, by rw [imO _ y1']; exact y6⟩
      · rw [nzE]
        have T3 := T2.fr w3 rfl ⟨rfl, rfl, rfl, rfl⟩
        obtain ⟨t1, t2, t3, t5, t6, t7, t8⟩ := T3
        refine ⟨t1, t2, t3, t5, t6, fun x hx => ⟨(t7 x hx).1, (t7 x hx).2.1, fun h hK => (t7 x hx).2.2 h ⟨fun s hs => ?_, fun e => hK t ((memE _).mpr (.inl rfl)) (by rw [imN, e])⟩⟩, t8⟩
        have := hK s ((memE s).mpr (.inr hs))
        rw [imO s (i6 s hs)] at this; exact this
      · rw [r171 s (by omega)]
        by_cases e : s = t
        · rw [if_pos e]; exact ⟨fun _ => .inl (by rw [e]; exact List.mem_cons_self), fun _ => rfl⟩
        · rw [if_neg e, m6 s hs]
          exact ⟨fun k => k.elim (fun k => .inl (List.mem_cons_of_mem _ k)) .inr, fun k => k.elim (fun k => .inl ((List.mem_cons.mp k).elim (fun q => absurd q e) id)) .inr⟩
      · rcases List.mem_cons.mp hs with e | e
        · rw [e, imN, wr_nek (by decide), wr_self]
        · rw [imO s e, wr_nek (by decide), wr_nei (fun q : s = t => hnS (by rw [← q]; exact e)), w2.1 173 s (.inr rfl) (by omega), wr_nek (by decide)]; exact m7 s e
      · rw [wr_nek (by decide), wr_nei (fun q : (0 : Nat) = t => t0 q.symm), w2.1 173 0 (.inr rfl) (by omega), wr_nek (by decide)]; exact m8 hz
      · rcases List.mem_cons.mp h with e | e
        · exact t0 e.symm
        · exact m9 e
      · refine ⟨(w1.sub rfl rfl).trans ((w2.2.sub rfl rfl).trans (w3.sub rfl rfl)), fun i hi => ?_⟩
        rw [w3.rd (j := 166) rfl, w3.rd (j := 167) rfl, w3.rd (j := 168) rfl, w3.rd (j := 170) rfl, w3.rd (j := 183) rfl, w2.1 166 i (.inl (by omega)) (by omega), w2.1 167 i (.inl (by omega)) (by omega), w2.1 168 i (.inl (by omega)) (by omega), w2.1 170 i (.inl (by omega)) (by omega), w2.1 183 i (.inl (by omega)) (by omega), w1.rd (j := 166) rfl, w1.rd (j := 167) rfl, w1.rd (j := 168) rfl, w1.rd (j := 170) rfl, w1.rd (j := 183) rfl]
        exact ⟨rfl, rfl, rfl, rfl, rfl⟩
end CPM
