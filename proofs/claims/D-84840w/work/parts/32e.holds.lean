/-! TYPES OF THE COMPONENT: the tables, and what arrows hold -/
def ct (p : Nat → Prop) [DecidablePred p] : Nat → Nat
  | 0 => 0
  | n + 1 => ct p n + if p n then 1 else 0
section CT
theorem ct_le {p : Nat → Prop} [DecidablePred p] : ∀ n, ct p n ≤ n := by
  intro n
  induction n with
  | zero => exact Nat.le_refl _
  | succ n ih => show ct p n + _ ≤ n + 1; split <;> omega
theorem ct_congr {p q : Nat → Prop} [DecidablePred p] [DecidablePred q] : ∀ n, (∀ x, x < n → (p x ↔ q x)) → ct p n = ct q n := by
  intro n
  induction n with
  | zero => intro _; rfl
  | succ n ih =>
    intro h
    show ct p n + (if p n then 1 else 0) = ct q n + (if q n then 1 else 0)
    rw [ih (fun x hx => h x (by omega))]
    have := h n (by omega)
    by_cases e : p n
    · rw [if_pos e, if_pos (this.mp e)]
    · rw [if_neg e, if_neg (fun k => e (this.mpr k))]
/-- one less -/
theorem ct_flip {p q : Nat → Prop} [DecidablePred p] [DecidablePred q] {a : Nat} (ha : p a) (hb : ¬ q a) : ∀ n, a < n → (∀ x, x < n → x ≠ a → (p x ↔ q x)) → ct q n + 1 = ct p n := by
  intro n
  induction n with
  | zero => intro h; exact absurd h (Nat.not_lt_zero _)
  | succ n ih =>
    intro h g
    show ct q n + (if q n then 1 else 0) + 1 = ct p n + (if p n then 1 else 0)
    by_cases e : n = a
    · subst e
      rw [if_pos ha, if_neg hb, ct_congr n (fun x hx => g x (by omega) (by omega))]
    · have := ih (by omega) (fun x hx => g x (by omega))
      have gn := g n (by omega) e
      by_cases e2 : p n
      · rw [if_pos e2, if_pos (gn.mp e2)]; omega
      · rw [if_neg e2, if_neg (fun k => e2 (gn.mpr k))]; omega
end CT
theorem gUp_root {r : Nat → Nat} {f g N : Nat} (hf : r f = f) (hg : r g = g) (hn : f ≠ g) (hfN : f < N) : ct (fun x => gUp r f g x = x) N + 1 = ct (fun x => r x = x) N := by
  refine ct_flip (p := fun x => r x = x) (q := fun x => gUp r f g x = x) (a := f) hf ?_ N hfN ?_
  · show ¬ gUp r f g f = f
    unfold gUp; rw [if_pos hf]; exact fun q => hn q.symm
  · intro x _ hx
    show r x = x ↔ gUp r f g x = x
    unfold gUp
    by_cases e : r x = f
    · rw [if_pos e]
      constructor
      · intro q; exact absurd (q.symm.trans e) hx
      · intro q; rw [← q, hg] at e; exact absurd e (fun k => hn k.symm)
    · rw [if_neg e]
section TYC
variable {L : Nat} {xs : Nat → Int32} {σ σ' : tvS}
theorem LNK.link {N : Nat} {r : Nat → Nat} (h : LNK N r σ) {f g : Nat} (hf : r f = f) (hg : r g = g) (hn : f ≠ g) (hfN : f < N) (hgN : g < N) : LNK N (gUp r f g) (wr σ 52 f (i32 (g : Int))) := by
  obtain ⟨rk, h⟩ := h
  refine ⟨fun x => if r x = f then rk x + rk g + 1 else rk x, fun x hx => ⟨?_, ?_⟩⟩
  · unfold gUp; split
    · exact hgN
    · exact (h x hx).1
  · by_cases e : x = f
    · subst e
      refine .inr ⟨g, hgN, wr_self _ _ _ _, ?_, ?_⟩
      · unfold gUp; rw [if_pos hf, hg, if_neg (fun q => hn q.symm)]
      · show (if r g = x then _ else _) < (if r x = x then _ else _)
        rw [hg, if_neg (fun q => hn q.symm), if_pos hf]; omega
    · rw [rdne (fun q => e q.2)]
      rcases (h x hx).2 with ⟨a, b⟩ | ⟨y, hy, a, b, c⟩
      · refine .inl ⟨a, ?_⟩
        unfold gUp; rw [if_neg (fun q => e (b.symm.trans q)), b]
      · refine .inr ⟨y, hy, a, gUp_sub b, ?_⟩
        show (if r y = f then _ else _) < (if r x = f then _ else _)
        rw [b]; split <;> omega
/-- the tables of types -/
def TC (N : Nat) (G : tG) (r : Nat → Nat) (σ : tvS) : Prop :=
  rd σ 50 8 = i32 (N : Int) ∧ 0 < N ∧ N ≤ ln σ 51 ∧ (∀ j, 51 ≤ j → j ≤ 58 → ln σ j = ln σ 51) ∧ LNK N r σ ∧ (∀ x, N ≤ x → r x = x ∧ G.1 x = 0) ∧
  (∀ x, x < N → rd σ 51 x = i32 (G.1 x : Int) ∧ G.1 x ≤ 4 ∧ (2 ≤ G.1 x → rd σ 53 x = i32 (G.2.1 x : Int) ∧ G.2.1 x < N ∧ (G.1 x ≠ 3 → rd σ 54 x = i32 (G.2.2 x : Int) ∧ G.2.2 x < N))) ∧
  (∀ x, G.1 x = 1 ↔ x = 0)
theorem TC.fr {N : Nat} {G : tG} {r : Nat → Nat} {S T : List Nat} (h : TC N G r σ) (g : frG S T σ σ') (h8 : rd σ' 50 8 = rd σ 50 8) (hS : inL S 51 = false ∧ inL S 53 = false ∧ inL S 54 = false)
    (hT : (∀ j, 51 ≤ j → j ≤ 58 → inL T j = false)) {r' : Nat → Nat} (hr : LNK N r' σ') (ho : ∀ x, N ≤ x → r' x = x) : TC N G r' σ' := by
  obtain ⟨a1, a2, a3, a4, a5, a6, a7, a8⟩ := h
  refine ⟨by rw [h8]; exact a1, a2, by rw [(g.2.2 51 (hT 51 (by omega) (by omega))).1]; exact a3, fun j h1 h2 => by rw [(g.2.2 j (hT j h1 h2)).1, (g.2.2 51 (hT 51 (by omega) (by omega))).1]; exact a4 j h1 h2, hr, fun x hx => ⟨ho x hx, (a6 x hx).2⟩, fun x hx => ?_, a8⟩
  obtain ⟨b1, b2, b3⟩ := a7 x hx
  rw [g.1 51 hS.1, g.1 53 hS.2.1, g.1 54 hS.2.2]
  exact ⟨b1, b2, b3⟩
theorem LNK.fr {N : Nat} {r : Nat → Nat} (h : LNK N r σ) (g : ∀ i, rd σ' 52 i = rd σ 52 i) : LNK N r σ' := by
  obtain ⟨rk, h⟩ := h
  exact ⟨rk, fun x hx => by rw [g]; exact h x hx⟩
theorem TC.ln52 {N : Nat} {G : tG} {r : Nat → Nat} (h : TC N G r σ) : N ≤ ln σ 52 := by rw [h.2.2.2.1 52 (by omega) (by omega)]; exact h.2.2.1
theorem ROOM.b52 {K1 K2 : Nat} (h : ROOM K1 K2 σ) : ln σ 52 ≤ 1000000 := Nat.le_trans (h.le (k := 52) (M := 122880) (by decide)) (by omega)
theorem TC.lt {N : Nat} {G : tG} {r : Nat → Nat} {K1 K2 : Nat} (h : TC N G r σ) (hR : ROOM K1 K2 σ) : N ≤ 122880 := Nat.le_trans h.2.2.1 (hR.le (k := 51) (M := 122880) (by decide))
/-- find, in the tables -/
theorem find_C {N : Nat} {G : tG} {r : Nat → Nat} {K1 K2 : Nat} (h : TC N G r σ) (hR : ROOM K1 K2 σ) {x : Nat} (hx : x < N) (d : Nat) (v2 v3 v4 : Value) :
    ∃ σ', rn L xs (d + 1) 84 0 [.ref 50, .int (i32 x), v2, v3, v4] [] σ = some (.inl (some (.int (i32 (r x)))), σ') ∧ TC N G r σ' ∧ ROOM K1 K2 σ' ∧ frW [52] σ σ' := by
  obtain ⟨σ', a, b, c⟩ := find_c (L := L) (xs := xs) h.2.2.2.2.1 h.ln52 hR.b52 hx d v2 v3 v4
  exact ⟨σ', a, h.fr (c.G []) (c.1 50 rfl 8) ⟨rfl, rfl, rfl⟩ (fun _ _ _ => rfl) b (fun x hx => (h.2.2.2.2.2.1 x hx).1), hR.fr c, c⟩
theorem TC.rlt {N : Nat} {G : tG} {r : Nat → Nat} (h : TC N G r σ) {x : Nat} (hx : x < N) : r x < N := by
  obtain ⟨rk, h⟩ := h.2.2.2.2.1
  exact (h x hx).1
/-! chains of what is held -/
def chL (σ : tvS) : List Nat → Int32 → Prop
  | [], x => x = i32 (-1)
  | i :: r, x => x = i32 (i : Int) ∧ chL σ r (rd σ 60 i)
theorem chL.congr : ∀ {l : List Nat} {x : Int32}, chL σ l x → (∀ i, i ∈ l → rd σ' 60 i = rd σ 60 i) → chL σ' l x := by
  intro l
  induction l with
  | nil => intro x h _; exact h
  | cons i r ih =>
    intro x h g
    refine ⟨h.1, ?_⟩
    rw [g i List.mem_cons_self]
    exact ih h.2 (fun j hj => g j (List.mem_cons_of_mem _ hj))
/-- two chains are put together at the first one's end -/
theorem chL.app {m : List Nat} : ∀ {l : List Nat} {x : Int32} {k : Nat} {y : Int32}, chL σ l x → l.Nodup → l.getLast? = some k → chL σ m y → (∀ i, i ∈ l → i ∉ m) → chL (wr σ 60 k y) (l ++ m) x := by
  intro l
  induction l with
  | nil => intro x k y _ _ h; cases h
  | cons i r ih =>
    intro x k y h hd hk hm hx
    rw [List.nodup_cons] at hd
    refine ⟨h.1, ?_⟩
    cases r with
    | nil =>
      have : i = k := by simpa using hk
      subst this
      rw [wr_self]
      exact hm.congr (fun j hj => wr_nei (fun e => hx i List.mem_cons_self (e ▸ hj)))
    | cons i2 r2 =>
      rw [List.getLast?_cons_cons] at hk
      have hki : i ≠ k := fun e => hd.1 (e ▸ List.mem_of_getLast? hk)
      rw [wr_nei hki]
      exact ih h.2 hd.2 hk hm (fun j hj => hx j (List.mem_cons_of_mem _ hj))
def HO (N : Nat) (r : Nat → Nat) (hl : Nat → List Nat) (hv : Nat → Nat) (H : Nat) (σ : tvS) : Prop :=
  rd σ 50 11 = i32 (H : Int) ∧ H ≤ ln σ 59 ∧ ln σ 60 = ln σ 59 ∧ (∀ i, i < H → rd σ 59 i = i32 (hv i : Int) ∧ hv i < N) ∧
  (∀ t, t < N → r t = t → chL σ (hl t) (rd σ 55 t) ∧ (hl t).Nodup ∧ (∀ i, i ∈ hl t → i < H) ∧ (∀ i, (hl t).getLast? = some i → rd σ 56 t = i32 (i : Int))) ∧
  (∀ t t' i, t < N → t' < N → r t = t → r t' = t' → i ∈ hl t → i ∈ hl t' → t = t')
theorem HO.fr {N : Nat} {r : Nat → Nat} {hl : Nat → List Nat} {hv : Nat → Nat} {H : Nat} {S T : List Nat} (h : HO N r hl hv H σ) (g : frG S T σ σ') (h11 : rd σ' 50 11 = rd σ 50 11)
    (hS : inL S 55 = false ∧ inL S 56 = false ∧ inL S 59 = false ∧ inL S 60 = false) (hT : inL T 59 = false ∧ inL T 60 = false) : HO N r hl hv H σ' := by
  obtain ⟨a1, a2, a3, a4, a5, a6⟩ := h
  refine ⟨by rw [h11]; exact a1, by rw [(g.2.2 59 hT.1).1]; exact a2, by rw [(g.2.2 59 hT.1).1, (g.2.2 60 hT.2).1]; exact a3, fun i hi => by rw [g.1 59 hS.2.2.1]; exact a4 i hi, fun t ht hr => ?_, a6⟩
  obtain ⟨b1, b2, b3, b4⟩ := a5 t ht hr
  rw [g.1 55 hS.1, g.1 56 hS.2.1]
  exact ⟨b1.congr (fun i _ => g.1 60 hS.2.2.2 i), b2, b3, b4⟩
def hlJ (hl : Nat → List Nat) (f g : Nat) : Nat → List Nat := fun t => if t = g then hl g ++ hl f else hl t
/-- what one holds goes over to another, that it has become -/
theorem join_c {N : Nat} {r : Nat → Nat} {hl : Nat → List Nat} {hv : Nat → Nat} {H : Nat} (h : HO N r hl hv H σ) {f g : Nat} (hf : r f = f) (hg : r g = g) (hn : f ≠ g) (hfN : f < N) (hgN : g < N)
    (h5 : N ≤ ln σ 55 ∧ ln σ 55 ≤ 1000000) (h6 : N ≤ ln σ 56 ∧ ln σ 56 ≤ 1000000) (h0 : ln σ 60 ≤ 1000000) (d : Nat) :
    ∃ σ', rn L xs (d + 1) 95 0 [.ref 50, .int (i32 f), .int (i32 g)] [] σ = some (.inl none, σ') ∧ HO N (gUp r f g) (hlJ hl f g) hv H σ' ∧ frW [55, 56, 60] σ σ' := by
  obtain ⟨a1, a2, a3, a4, a5, a6⟩ := h
  obtain ⟨f1, f2, f3, f4⟩ := a5 f hfN hf
  obtain ⟨g1, g2, g3, g4⟩ := a5 g hgN hg
  have rt : ∀ t, gUp r f g t = t → r t = t ∧ t ≠ f := by
    intro t ht
    unfold gUp at ht
    by_cases e : r t = f
    · rw [if_pos e] at ht; rw [← ht, hg] at e; exact absurd e (fun q => hn q.symm)
    · rw [if_neg e] at ht; exact ⟨ht, fun q => e (ht.trans q)⟩
  have dis : ∀ i, i ∈ hl g → i ∉ hl f := fun i h1 h2 => hn (a6 f g i hfN hgN hf hg h2 h1)
  -- whatever is done to the chain of g, the others stay
  have fin : ∀ σ', frW [55, 56, 60] σ σ' → chL σ' (hl g ++ hl f) (rd σ' 55 g) → (∀ i, (hl g ++ hl f).getLast? = some i → rd σ' 56 g = i32 (i : Int)) → (∀ t, t ≠ g → rd σ' 55 t = rd σ 55 t ∧ rd σ' 56 t = rd σ 56 t) → (∀ i, i ∉ hl g → rd σ' 60 i = rd σ 60 i) → HO N (gUp r f g) (hlJ hl f g) hv H σ' := by
    intro σ' fr c1 c2 c3 c4
    refine ⟨by rw [fr.1 50 rfl]; exact a1, by rw [fr.ln]; exact a2, by rw [fr.ln, fr.ln]; exact a3, fun i hi => by rw [fr.1 59 rfl]; exact a4 i hi, fun t ht hr => ?_, ?_⟩
    · obtain ⟨r1, r2⟩ := rt t hr
      by_cases e : t = g
      · subst e
        have ej : hlJ hl f t t = hl t ++ hl f := if_pos rfl
        rw [ej]
        exact ⟨c1, List.nodup_append.mpr ⟨g2, f2, fun a ha b hb => fun q => dis a ha (q ▸ hb)⟩, fun i hi => (List.mem_append.mp hi).elim (g3 i) (f3 i), c2⟩
      · have ej : hlJ hl f g t = hl t := if_neg e
        rw [ej, (c3 t e).1, (c3 t e).2]
        obtain ⟨b1, b2, b3, b4⟩ := a5 t ht r1
        exact ⟨b1.congr (fun i hi => c4 i (fun q => e (a6 t g i ht hgN r1 hg hi q))), b2, b3, b4⟩
    · intro t t' i ht ht' hr hr' hi hi'
      obtain ⟨r1, r2⟩ := rt t hr
      obtain ⟨r1', r2'⟩ := rt t' hr'
      by_cases e : t = g
      · by_cases e' : t' = g
        · rw [e, e']
        · rw [show hlJ hl f g t' = hl t' from if_neg e'] at hi'
          subst e
          rw [show hlJ hl f t t = hl t ++ hl f from if_pos rfl] at hi
          rcases List.mem_append.mp hi with q | q
          · exact a6 t t' i ht ht' r1 r1' q hi'
          · exact absurd (a6 f t' i hfN ht' hf r1' q hi') (fun k => r2' k.symm)
      · rw [show hlJ hl f g t = hl t from if_neg e] at hi
        by_cases e' : t' = g
        · subst e'
          rw [show hlJ hl f t' t' = hl t' ++ hl f from if_pos rfl] at hi'
          rcases List.mem_append.mp hi' with q | q
          · exact a6 t t' i ht ht' r1 r1' hi q
          · exact absurd (a6 t f i ht hfN r1 hf hi q) (fun k => r2 k)
        · rw [show hlJ hl f g t' = hl t' from if_neg e'] at hi'
          exact a6 t t' i ht ht' r1 r1' hi hi'
  rw [e95_0, c_in (by omega) (by omega) (by omega), i32_ixn (by omega)]
  cases hlf : hl f with
  | nil =>
    rw [hlf] at f1
    rw [show rd σ 55 f = i32 (-1) from f1, i32_raw, c2_ne (by omega) (by omega) (by omega) (by omega), c_f (by omega)]
    refine ⟨σ, rfl, fin σ frW.refl (by rw [hlf, List.append_nil]; exact g1) (by rw [hlf, List.append_nil]; exact g4) (fun _ _ => ⟨rfl, rfl⟩) (fun _ _ => rfl), frW.refl⟩
  | cons i0 rf =>
    have f1' := f1
    rw [hlf] at f1
    have hi0 : i0 < H := f3 i0 (by rw [hlf]; exact List.mem_cons_self)
    rw [f1.1, i32_raw, c2_ne (by omega) (by omega) (by omega) (by omega), c_t (by omega), e95_11, c_in (by omega) (by omega) (by omega), i32_ixn (by omega)]
    have lastf : ∃ k, (hl f).getLast? = some k := by rw [hlf]; exact ⟨_, List.getLast?_cons⟩
    obtain ⟨kf, hkf⟩ := lastf
    have lastc : (hl g ++ hl f).getLast? = some kf := by rw [List.getLast?_append, hkf]; rfl
    have last53 : ∀ s : tvS, (∀ j, ln s j = ln σ j) → (∀ i, rd s 56 i = rd σ 56 i) → rn L xs (d + 1) 95 53 [.ref 50, .int (i32 f), .int (i32 g)] [] s = some (.inl none, wr s 56 g (i32 (kf : Int))) := by
      intro s hl' h56
      rw [e95_53, hl', c_in (by omega) (by omega) (by omega), c_in (by omega) (by omega) (by omega), i32_ixn (by omega), i32_ixn (by omega), h56, f4 kf hkf]
    cases hlg : hl g with
    | nil =>
      rw [hlg] at g1
      rw [show rd σ 55 g = i32 (-1) from g1, i32_raw, c2_ne (by omega) (by omega) (by omega) (by omega), c_f (by omega), c_in (by omega) (by omega) (by omega), c_in (by omega) (by omega) (by omega), i32_ixn (by omega), f1.1,
        last53 (wr σ 55 g (i32 (i0 : Int))) (fun _ => rfl) (fun i => wr_nek (by decide))]
      have fr : frW [55, 56, 60] σ (wr (wr σ 55 g (i32 (i0 : Int))) 56 g (i32 (kf : Int))) := (frW_wr rfl).trans (frW_wr rfl)
      refine ⟨_, rfl, fin _ fr ?_ ?_ ?_ ?_, fr⟩
      · rw [hlg, List.nil_append, wr_nek (by decide), wr_self]
        rw [f1.1] at f1'
        exact f1'.congr (fun i _ => by rw [wr_nek (by decide), wr_nek (by decide)])
      · intro i hi
        rw [lastc] at hi
        rw [wr_self]; cases hi; rfl
      · intro t ht
        exact ⟨by rw [wr_nek (by decide), wr_nei ht], by rw [wr_nei ht, wr_nek (by decide)]⟩
      · intro i _; rw [wr_nek (by decide), wr_nek (by decide)]
    | cons j0 rg =>
      have g1' := g1
      rw [hlg] at g1
      have hj0 : j0 < H := g3 j0 (by rw [hlg]; exact List.mem_cons_self)
      have lastg : ∃ k, (hl g).getLast? = some k := by rw [hlg]; exact ⟨_, List.getLast?_cons⟩
      obtain ⟨kg, hkg⟩ := lastg
      have hkgH : kg < H := g3 kg (List.mem_of_getLast? hkg)
      rw [g1.1, i32_raw, c2_ne (by omega) (by omega) (by omega) (by omega), c_t (by omega), e95_36, c_in (by omega) (by omega) (by omega), c_in (by omega) (by omega) (by omega), i32_ixn (by omega), i32_ixn (by omega), g4 kg hkg, c_in (by omega) (by omega) (by omega), i32_ixn (by omega), f1.1,
        last53 (wr σ 60 kg (i32 (i0 : Int))) (fun _ => rfl) (fun i => wr_nek (by decide))]
      have fr : frW [55, 56, 60] σ (wr (wr σ 60 kg (i32 (i0 : Int))) 56 g (i32 (kf : Int))) := (frW_wr rfl).trans (frW_wr rfl)
      refine ⟨_, rfl, fin _ fr ?_ ?_ ?_ ?_, fr⟩
      · rw [wr_nek (by decide), wr_nek (by decide)]
        have f1'' : chL σ (hl f) (i32 (i0 : Int)) := by rw [f1.1] at f1'; exact f1'
        exact (chL.app g1' g2 hkg f1'' dis).congr (fun i _ => wr_nek (by decide))
      · intro i hi
        rw [lastc] at hi
        rw [wr_self]; cases hi; rfl
      · intro t ht
        exact ⟨by rw [wr_nek (by decide), wr_nek (by decide)], by rw [wr_nei ht, wr_nek (by decide)]⟩
      · intro i hi
        rw [wr_nek (by decide)]; exact wr_nei (fun e => hi (by rw [e]; exact List.mem_of_getLast? hkg))
end TYC
