/-! TYPES OF THE COMPONENT: a copy of a type -/
section CPC
variable {L : Nat} {xs : Nat → Int32} {σ σ' : tvS}
/-- what one becomes in the copy -/
def cov (G : tG) (r : Nat → Nat) (SL : List Nat) (im : Nat → Nat) (u v : Nat) : Prop := (G.1 (r u) = 1 ∧ v = r u) ∨ (G.1 (r u) ≠ 1 ∧ r u ∈ SL ∧ v = im (r u))
/-- what is copied: B, the types and what arrows hold as they were, where those lie that may be reached -/
def cpB (N0 : Nat) (G0 : tG) (r : Nat → Nat) (hl0 : Nat → List Nat) (hv0 : Nat → Nat) (H0 : Nat) (RS : Nat → Prop) (b1 b2 : Nat) : Prop :=
  (∀ t, RS t → t < N0 ∧ r t = t ∧ (2 ≤ G0.1 t → G0.2.1 t < N0 ∧ RS (r (G0.2.1 t)) ∧ (G0.1 t ≠ 3 → G0.2.2 t < N0 ∧ RS (r (G0.2.2 t)))) ∧ ∀ i, i ∈ hl0 t → i < H0 ∧ hv0 i < N0 ∧ RS (r (hv0 i))) ∧
  (∀ l : List Nat, l.Nodup → (∀ t, t ∈ l → RS t ∧ G0.1 t ≠ 1) → l.length ≤ b1) ∧
  (∀ l : List (Nat × Nat), l.Nodup → (∀ p, p ∈ l → RS p.1 ∧ G0.1 p.2 ≠ 1 ∧ ∃ i, i ∈ hl0 p.1 ∧ r (hv0 i) = p.2) → l.length ≤ b2) ∧
  (∀ x, N0 ≤ x → r x = x)
/-- the copy as far as it is made; cur: the one at hand, W: those to come -/
def cpI (N0 : Nat) (G0 : tG) (r : Nat → Nat) (hl0 : Nat → List Nat) (hv0 : Nat → Nat) (H0 : Nat) (RS : Nat → Prop) (N : Nat) (G : tG) (hl : Nat → List Nat) (hv : Nat → Nat) (H : Nat) (im : Nat → Nat) (SL : List Nat) (PL : List (Nat × Nat)) (cur W : List Nat) : Prop :=
  N = N0 + SL.length ∧ SL.Nodup ∧ (∀ t, t ∈ SL → RS t ∧ G0.1 t ≠ 1 ∧ N0 ≤ im t ∧ im t < N ∧ G.1 (im t) = G0.1 t) ∧ (∀ t t', t ∈ SL → t' ∈ SL → im t = im t' → t = t') ∧ (∀ x, N0 ≤ x → x < N → ∃ t, t ∈ SL ∧ im t = x) ∧
  (∀ t, t ∈ cur ++ W → t ∈ SL) ∧ (cur ++ W).Nodup ∧
  (∀ t, t ∈ SL → t ∉ cur ++ W → (2 ≤ G0.1 t → cov G0 r SL im (G0.2.1 t) (G.2.1 (im t)) ∧ (G0.1 t ≠ 3 → cov G0 r SL im (G0.2.2 t) (G.2.2 (im t)))) ∧
    (∀ i, i ∈ hl0 t → G0.1 (r (hv0 i)) ≠ 1 → ∃ j, j ∈ hl (im t) ∧ cov G0 r SL im (hv0 i) (hv j)) ∧ (∀ j, j ∈ hl (im t) → ∃ i, i ∈ hl0 t ∧ G0.1 (r (hv0 i)) ≠ 1 ∧ cov G0 r SL im (hv0 i) (hv j))) ∧
  (∀ t, t ∈ W → hl (im t) = []) ∧
  (∀ x, x < N0 → G.1 x = G0.1 x ∧ G.2.1 x = G0.2.1 x ∧ G.2.2 x = G0.2.2 x) ∧ (∀ x, x < N0 → hl x = hl0 x) ∧ (∀ i, i < H0 → hv i = hv0 i) ∧ (∀ t, N ≤ t → hl t = []) ∧
  H = H0 + PL.length ∧ PL.Nodup ∧ (∀ p, p ∈ PL → p.1 ∈ SL ∧ p.2 ∈ SL ∧ RS p.1 ∧ G0.1 p.2 ≠ 1 ∧ (∃ i, i ∈ hl0 p.1 ∧ r (hv0 i) = p.2) ∧ ∃ j, j ∈ hl (im p.1) ∧ hv j = im p.2)
/-- and in memory -/
def cpS (K1 K2 N0 S : Nat) (r : Nat → Nat) (N : Nat) (G : tG) (hl : Nat → List Nat) (hv : Nat → Nat) (H : Nat) (im : Nat → Nat) (SL : List Nat) (cur W : List Nat) (σ : tvS) : Prop :=
  TCq (fun x => ∀ t, t ∈ cur ++ W → im t ≠ x) N G r σ ∧ HO N r hl hv H σ ∧ STP N S σ ∧ WK (ints W) σ ∧ ROOM K1 K2 σ ∧ (∀ t, t ∈ SL ↔ t < N0 ∧ rd σ 57 t = i32 (S : Int)) ∧ (∀ t, t ∈ SL → rd σ 58 t = i32 (im t : Int))
def FCP : List Nat := [51, 52, 53, 54, 55, 56, 57, 58, 61]
def TCP : List Nat := [51, 52, 53, 54, 55, 56, 57, 58, 61]
/-- what stays while a copy is begun -/
def frC (N : Nat) (σ σ' : tvS) : Prop := frT FCP TCP [8, 14] σ σ' ∧ (∀ i, i < N → rd σ' 51 i = rd σ 51 i ∧ rd σ' 53 i = rd σ 53 i ∧ rd σ' 54 i = rd σ 54 i ∧ rd σ' 55 i = rd σ 55 i ∧ rd σ' 56 i = rd σ 56 i)
theorem frC.refl {N : Nat} : frC N σ σ := ⟨frT.refl, fun _ _ => ⟨rfl, rfl, rfl, rfl, rfl⟩⟩
theorem frC.trans {N : Nat} {a b e : tvS} (h : frC N a b) (g : frC N b e) : frC N a e := ⟨h.1.trans g.1, fun i hi => by
  obtain ⟨a1, a2, a3, a4, a5⟩ := h.2 i hi
  obtain ⟨b1, b2, b3, b4, b5⟩ := g.2 i hi
  exact ⟨b1.trans a1, b2.trans a2, b3.trans a3, b4.trans a4, b5.trans a5⟩⟩
theorem cov.mono {G : tG} {r : Nat → Nat} {SL SL' : List Nat} {im im' : Nat → Nat} {u v : Nat} (h : cov G r SL im u v) (hs : ∀ t, t ∈ SL → t ∈ SL' ∧ im' t = im t) : cov G r SL' im' u v := by
  rcases h with h | ⟨h1, h2, h3⟩
  · exact .inl h
  · exact .inr ⟨h1, (hs _ h2).1, by rw [(hs _ h2).2]; exact h3⟩
theorem copy_c {K1 K2 N0 S b1 b2 : Nat} {G0 : tG} {r : Nat → Nat} {hl0 : Nat → List Nat} {hv0 : Nat → Nat} {H0 : Nat} {RS : Nat → Prop} (hB : cpB N0 G0 r hl0 hv0 H0 RS b1 b2) (h0 : ∀ x, G0.1 x ≤ 4) (hb : N0 + b1 < 122880) (hS : 1 ≤ S) (hS2 : S < 2147483648)
    {N : Nat} {G : tG} {hl : Nat → List Nat} {hv : Nat → Nat} {H : Nat} {im : Nat → Nat} {SL : List Nat} {PL : List (Nat × Nat)} {cur W : List Nat} (hI : cpI N0 G0 r hl0 hv0 H0 RS N G hl hv H im SL PL cur W) (hM : cpS K1 K2 N0 S r N G hl hv H im SL cur W σ) {u : Nat} (hu : u < N0) (hru : RS (r u)) (d : Nat) (v2 v3 : Value) :
    ∃ (σ' : tvS) (N' : Nat) (G' : tG) (im' : Nat → Nat) (SL' W' : List Nat) (v : Nat), rn L xs (d + 3) 83 0 [.ref 50, .int (i32 u), v2, v3] [] σ = some (.inl (some (.int (i32 v))), σ') ∧ cpI N0 G0 r hl0 hv0 H0 RS N' G' hl hv H im' SL' PL cur W' ∧ cpS K1 K2 N0 S r N' G' hl hv H im' SL' cur W' σ' ∧ cov G0 r SL' im' u v ∧ v < N' ∧ N ≤ N' ∧ (∀ t, t ∈ SL → t ∈ SL' ∧ im' t = im t) ∧ (∀ x, x < N → G'.1 x = G.1 x ∧ G'.2.1 x = G.2.1 x ∧ G'.2.2 x = G.2.2 x) ∧ 2 * (b1 - SL'.length) + W'.length ≤ 2 * (b1 - SL.length) + W.length ∧ (∀ t, t ∈ W → t ∈ W') ∧ frC N σ σ' := by
  obtain ⟨i1, i2, i3, i4, i5, i6, i7, i8, i9, i10, i11, i12, i13, i14, i15, i16⟩ := id hI
  obtain ⟨m1, m2, m3, m4, m5, m6, m7⟩ := id hM
  obtain ⟨s1, f1, T1, R1, w1⟩ := find_Q (L := L) (xs := xs) m1 m5 (show u < N by omega) (d + 1) jv jv jv
  have hN := m1.lt m5
  obtain ⟨q1, q2, q3, q4⟩ := hB.1 (r u) hru
  have len := fun j h1 h2 => T1.len R1 (j := j) h1 h2
  have l51 := len 51 (by omega) (by omega)
  have l57 := len 57 (by omega) (by omega)
  have l58 := len 58 (by omega) (by omega)
  have H1 := m2.fr (w1.G []) (w1.1 50 rfl 11) ⟨rfl, rfl, rfl, rfl⟩ ⟨rfl, rfl⟩
  have S1 := m3.T (w1.T [] [] rfl) rfl rfl
  have W1 := m4.fr w1 rfl rfl
  have eK : rd s1 51 (r u) = i32 (G0.1 (r u) : Int) := by rw [(T1.2.2.2.2.2.2.1 (r u) (by omega)).1, (i10 (r u) q1).1]
  have k4 := h0 (r u)
  have M1 : cpS K1 K2 N0 S r N G hl hv H im SL cur W s1 := ⟨T1, H1, S1, W1, R1, fun t => by rw [w1.1 57 rfl]; exact m6 t, fun t ht => by rw [w1.1 58 rfl]; exact m7 t ht⟩
  have fr1 : frC N σ s1 := ⟨(w1.T [] [] rfl).sub rfl rfl rfl, fun i _ => ⟨w1.1 51 rfl i, w1.1 53 rfl i, w1.1 54 rfl i, w1.1 55 rfl i, w1.1 56 rfl i⟩⟩
  rw [e83_0 (d + 2), bI_ok f1, c_in (by omega) (by omega) (by omega), i32_ixn (by omega), eK, show (1 : Int32) = i32 1 from rfl, c2_ne (by omega) (by omega) (by omega) (by omega)]
  by_cases z1 : G0.1 (r u) = 1
  · rw [c_f (by omega)]
    exact ⟨s1, N, G, im, SL, W, r u, rfl, hI, M1, .inl ⟨z1, rfl⟩, by omega, Nat.le_refl _, fun t ht => ⟨ht, rfl⟩, fun x _ => ⟨rfl, rfl, rfl⟩, Nat.le_refl _, fun t ht => ht, fr1⟩
  rw [c_t (by omega), e83_18 (d + 2), c_in (by omega) (by omega) (by omega), i32_ixn (by omega), S1.1]
  by_cases z2 : r u ∈ SL
  · have := ((M1.2.2.2.2.2.1 (r u)).mp z2).2
    rw [this, show pv_c2 .ne (i32 (S : Int)) (i32 (S : Int)) = false from decide_eq_false (fun k => k rfl), cond_false, c_in (by omega) (by omega) (by omega), M1.2.2.2.2.2.2 (r u) z2]
    have h3 := i3 (r u) z2
    exact ⟨s1, N, G, im, SL, W, im (r u), rfl, hI, M1, .inr ⟨z1, z2, rfl⟩, h3.2.2.2.1, Nat.le_refl _, fun t ht => ⟨ht, rfl⟩, fun x _ => ⟨rfl, rfl, rfl⟩, Nat.le_refl _, fun t ht => ht, fr1⟩
  · have nst : rd s1 57 (r u) ≠ i32 (S : Int) := fun q => z2 ((M1.2.2.2.2.2.1 (r u)).mpr ⟨q1, q⟩)
    rw [show pv_c2 .ne (rd s1 57 (r u)) (i32 (S : Int)) = true from decide_eq_true nst, cond_true, e83_38 (d + 2), c_in (by omega) (by omega) (by omega), i32_ixn (by omega), eK]
    have nd' : (r u :: SL).Nodup := List.nodup_cons.mpr ⟨z2, i2⟩
    have hlen : SL.length + 1 ≤ b1 := hB.2.1 (r u :: SL) nd' (fun t ht => by
      rcases List.mem_cons.mp ht with e | e
      · rw [e]; exact ⟨hru, z1⟩
      · exact ⟨(i3 t e).1, (i3 t e).2.1⟩)
    obtain ⟨s2, a1, T2, H2, S2, R2, w2⟩ := add_c (L := L) (xs := xs) (K' := fun x => (∀ t, t ∈ cur ++ W → im t ≠ x) ∧ x ≠ N) (k := G0.1 (r u)) (a := 0) (b := 0) (x2 := i32 (-1)) (x3 := i32 (-1)) T1 H1 S1 R1 (by omega) (i13 N (Nat.le_refl _)) k4 z1 (fun x _ h => h.1) (fun _ h => absurd rfl h.2) d jv
    rw [i32_raw, bI_ok a1]
    have len2 := fun j h1 h2 => T2.len R2 (j := j) h1 h2
    have l57' := len2 57 (by omega) (by omega)
    have l58' := len2 58 (by omega) (by omega)
    rw [c_in (by omega) (by omega) (by omega), c_in (by omega) (by omega) (by omega), S2.1]
    have W2 : WK (ints W) s2 := ⟨by rw [w2.1 50 14 (.inr rfl) (by omega)]; exact W1.1, by rw [(w2.2.1.2.2 61 rfl).1]; exact W1.2.1, W1.2.2.congr (fun i _ => w2.1 61 i (.inr rfl) (by omega))⟩
    have wA : frT [57, 58] [] [] s2 (wr (wr s2 57 (r u) (i32 (S : Int))) 58 (r u) (i32 (N : Int))) := (frT_wr rfl (by decide)).trans (frT_wr rfl (by decide))
    have WA : WK (ints W) (wr (wr s2 57 (r u) (i32 (S : Int))) 58 (r u) (i32 (N : Int))) := W2.fr (S := [57, 58]) ((frW_wr rfl).trans (frW_wr rfl)) rfl rfl
    have hWl : W.length ≤ SL.length := nodup_len W SL (List.nodup_append.mp i7).2.1 (fun t ht => i6 t (List.mem_append_right _ ht))
    obtain ⟨s3, p3, q3', R3, w3⟩ := push_T (L := L) (xs := xs) (R2.wr.wr (k := 58) (i := r u) (x := i32 (N : Int)) : ROOM K1 K2 (wr (wr s2 57 (r u) (i32 (S : Int))) 58 (r u) (i32 (N : Int)))) WA (by show (W.map _).length < _; rw [List.length_map]; omega) ((r u : Nat) : Int) (d + 1)
    rw [bV_ok p3]
    have TA := T2.T wA rfl ⟨rfl, rfl, rfl, rfl⟩ (fun _ _ _ => rfl)
    have T3 := TA.T w3 rfl ⟨rfl, rfl, rfl, rfl⟩ (fun j h1 h2 => n5158 h1 h2)
    have w23 : frT [57, 58, 61] [61] [14] s2 s3 := (wA.sub rfl rfl rfl).trans (w3.sub rfl rfl rfl)
    have imO : ∀ t, t ∈ SL → upN im (r u) N t = im t := fun t ht => if_neg (fun e : t = r u => z2 (by rw [← e]; exact ht))
    have imN : upN im (r u) N (r u) = N := if_pos rfl
    have gO : ∀ x, x < N → (gAdd G N (G0.1 (r u)) 0 0).1 x = G.1 x ∧ (gAdd G N (G0.1 (r u)) 0 0).2.1 x = G.2.1 x ∧ (gAdd G N (G0.1 (r u)) 0 0).2.2 x = G.2.2 x := fun x hx => ⟨if_neg (by omega), if_neg (by omega), if_neg (by omega)⟩
    have gN : (gAdd G N (G0.1 (r u)) 0 0).1 N = G0.1 (r u) := if_pos rfl
    have ext : ∀ t, t ∈ SL → t ∈ r u :: SL ∧ upN im (r u) N t = im t := fun t ht => ⟨List.mem_cons_of_mem _ ht, imO t ht⟩
    have r57 : ∀ t, t < N → rd s3 57 t = if t = r u then i32 (S : Int) else rd s1 57 t := fun t ht => by
      rw [w3.rd (j := 57) rfl, wr_nek (by decide), rd_wr]
      by_cases e : t = r u
      · rw [if_pos ⟨rfl, e⟩, if_pos e]
      · rw [if_neg (fun k => e k.2), if_neg e, w2.1 57 t (.inl ht) (by omega)]
    have r58 : ∀ t, t < N → rd s3 58 t = if t = r u then i32 (N : Int) else rd s1 58 t := fun t ht => by
      rw [w3.rd (j := 58) rfl, rd_wr]
      by_cases e : t = r u
      · rw [if_pos ⟨rfl, e⟩, if_pos e]
      · rw [if_neg (fun k => e k.2), if_neg e, wr_nek (by decide), w2.1 58 t (.inl ht) (by omega)]
    have i3' : ∀ t, t ∈ SL → t < N := fun t ht => by have := (hB.1 t (i3 t ht).1).1; omega
    have memE : ∀ t, t ∈ cur ++ r u :: W ↔ t = r u ∨ t ∈ cur ++ W := fun t => by
      rw [List.mem_append, List.mem_cons, List.mem_append]
      constructor
      · rintro (h | h | h)
        · exact .inr (.inl h)
        · exact .inl h
        · exact .inr (.inr h)
      · rintro (h | h | h)
        · exact .inr (.inl h)
        · exact .inl h
        · exact .inr (.inr h)
    refine ⟨s3, N + 1, gAdd G N (G0.1 (r u)) 0 0, upN im (r u) N, r u :: SL, r u :: W, N, rfl, ?_, ?_, .inr ⟨z1, List.mem_cons_self, imN.symm⟩, by omega, by omega, ext, gO, ?_, fun t ht => List.mem_cons_of_mem _ ht, ?_⟩
    · refine ⟨by rw [i1, List.length_cons]; omega, nd', fun t ht => ?_, fun t t' ht ht' he => ?_, fun x h1 h2 => ?_, fun t ht => ?_, ?_, fun t ht hnt => ?_, fun t ht => ?_, fun x hx => ?_, i11, i12, fun t ht => i13 t (by omega), i14, i15, fun p hp => ?_⟩
      · rcases List.mem_cons.mp ht with e | e
        · rw [e, imN, gN]; exact ⟨hru, z1, by omega, by omega, rfl⟩
        · obtain ⟨y1, y2, y3, y4, y5⟩ := i3 t e
          rw [imO t e]
          exact ⟨y1, y2, y3, by omega, by rw [(gO _ y4).1]; exact y5⟩
      · rcases List.mem_cons.mp ht with e | e <;> rcases List.mem_cons.mp ht' with e' | e'
        · rw [e, e']
        · rw [e, imN, imO t' e'] at he
          have := (i3 t' e').2.2.2.1; omega
        · rw [e', imN, imO t e] at he
          have := (i3 t e).2.2.2.1; omega
        · rw [imO t e, imO t' e'] at he; exact i4 t t' e e' he
      · by_cases e : x = N
        · exact ⟨r u, List.mem_cons_self, by rw [imN, e]⟩
        · obtain ⟨t, y1, y2⟩ := i5 x h1 (by omega)
          exact ⟨t, List.mem_cons_of_mem _ y1, by rw [imO t y1]; exact y2⟩
      · rcases (memE t).mp ht with e | e
        · rw [e]; exact List.mem_cons_self
        · exact List.mem_cons_of_mem _ (i6 t e)
      · rw [List.nodup_append] at i7 ⊢
        refine ⟨i7.1, List.nodup_cons.mpr ⟨fun h => z2 (i6 _ (List.mem_append_right _ h)), i7.2.1⟩, fun a ha b hb e => ?_⟩
        rcases List.mem_cons.mp hb with q | q
        · exact z2 (i6 _ (List.mem_append_left _ (by rw [← q, ← e]; exact ha)))
        · exact i7.2.2 a ha b q e
      · have hnu : t ≠ r u := fun e => hnt ((memE t).mpr (.inl e))
        have htS : t ∈ SL := (List.mem_cons.mp ht).elim (fun e => absurd e hnu) id
        obtain ⟨y1, y2, y3⟩ := i8 t htS (fun h => hnt ((memE t).mpr (.inr h)))
        have him := (i3 t htS).2.2.2.1
        rw [imO t htS, (gO _ him).2.1, (gO _ him).2.2]
        refine ⟨fun h => ⟨(y1 h).1.mono ext, fun h3 => ((y1 h).2 h3).mono ext⟩, fun i hi hk => ?_, fun j hj => ?_⟩
        · obtain ⟨j, y4, y5⟩ := y2 i hi hk
          exact ⟨j, y4, y5.mono ext⟩
        · obtain ⟨i, y4, y5, y6⟩ := y3 j hj
          exact ⟨i, y4, y5, y6.mono ext⟩
      · rcases List.mem_cons.mp ht with e | e
        · rw [e, imN]; exact i13 N (Nat.le_refl _)
        · rw [imO t (i6 t (List.mem_append_right _ e))]; exact i9 t e
      · rw [(gO x (by omega)).1, (gO x (by omega)).2.1, (gO x (by omega)).2.2]; exact i10 x hx
      · obtain ⟨y1, y1', y2, y3, y4, j, y5, y6⟩ := i16 p hp
        exact ⟨List.mem_cons_of_mem _ y1, List.mem_cons_of_mem _ y1', y2, y3, y4, j, by rw [imO _ y1]; exact y5, by rw [imO _ y1']; exact y6⟩
    · refine ⟨?_, ?_, ?_, q3', R3, fun t => ?_, fun t ht => ?_⟩
      · have hKeq : ∀ x, x < N + 1 → 2 ≤ (gAdd G N (G0.1 (r u)) 0 0).1 x → (∀ t, t ∈ cur ++ r u :: W → upN im (r u) N t ≠ x) → ((∀ t, t ∈ cur ++ W → im t ≠ x) ∧ x ≠ N) := fun x _ _ h => ⟨fun t ht => by
            have := h t ((memE t).mpr (.inr ht))
            rw [imO t (i6 t ht)] at this; exact this, fun e => h (r u) ((memE _).mpr (.inl rfl)) (by rw [imN, e])⟩
        obtain ⟨t1, t2, t3, t4, t5, t6, t7, t8⟩ := T3
        exact ⟨t1, t2, t3, t4, t5, t6, fun x hx => ⟨(t7 x hx).1, (t7 x hx).2.1, fun h hK => (t7 x hx).2.2 h (hKeq x hx h hK)⟩, t8⟩
      · exact H2.T w23 rfl ⟨rfl, rfl, rfl, rfl⟩ ⟨rfl, rfl⟩
      · refine ⟨by rw [w23.2 12 rfl]; exact S2.1, fun x hx => ?_⟩
        rw [w3.rd (j := 57) rfl, wr_nek (by decide), rd_wr]
        by_cases e : x = r u
        · rw [if_pos ⟨rfl, e⟩]; exact ⟨S, Nat.le_refl _, rfl⟩
        · rw [if_neg (fun k => e k.2)]; exact S2.2 x hx
      · constructor
        · intro ht
          rcases List.mem_cons.mp ht with e | e
          · rw [e, r57 _ (by omega), if_pos rfl]; exact ⟨q1, rfl⟩
          · have hh := (M1.2.2.2.2.2.1 t).mp e
            rw [r57 t (i3' t e), if_neg (fun k : t = r u => z2 (by rw [← k]; exact e))]; exact hh
        · rintro ⟨ht, h⟩
          rw [r57 t (by omega)] at h
          by_cases e : t = r u
          · rw [e]; exact List.mem_cons_self
          · rw [if_neg e] at h; exact List.mem_cons_of_mem _ ((M1.2.2.2.2.2.1 t).mpr ⟨ht, h⟩)
      · rcases List.mem_cons.mp ht with e | e
        · rw [e, imN, r58 _ (by omega), if_pos rfl]
        · rw [imO t e, r58 t (i3' t e), if_neg (fun k : t = r u => z2 (by rw [← k]; exact e))]; exact M1.2.2.2.2.2.2 t e
    · rw [List.length_cons, List.length_cons]; omega
    · refine fr1.trans ⟨(w2.2.sub rfl rfl rfl).trans (w23.sub rfl rfl rfl), fun i hi => ?_⟩
      rw [w23.rd (j := 51) rfl, w23.rd (j := 53) rfl, w23.rd (j := 54) rfl, w23.rd (j := 55) rfl, w23.rd (j := 56) rfl]
      exact ⟨w2.1 51 i (.inl hi) (by omega), w2.1 53 i (.inl hi) (by omega), w2.1 54 i (.inl hi) (by omega), w2.1 55 i (.inl hi) (by omega), w2.1 56 i (.inl hi) (by omega)⟩
end CPC
