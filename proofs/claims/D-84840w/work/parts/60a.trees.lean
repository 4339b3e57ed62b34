/-! VALUES AND THEIR TYPES: trees, told by their paths -/
/-- kind, serial number of the region, serial numbers that are held -/
abbrev trE : Type := List Bool → Nat × Nat × (Nat → Prop)
def trE.k (t : trE) : Nat := (t []).1
def trE.s (t : trE) : Nat := (t []).2.1
def trE.h (t : trE) : Nat → Prop := (t []).2.2
def trE.sub (t : trE) (b : Bool) : trE := fun q => t (b :: q)
def trI : trE := fun _ => (1, 0, fun _ => False)
def trN (k s : Nat) (h : Nat → Prop) (t1 t2 : trE) : trE
  | [] => (k, s, h)
  | false :: q => t1 q
  | true :: q => t2 q
theorem trN_k {k s : Nat} {h : Nat → Prop} {t1 t2 : trE} : (trN k s h t1 t2).k = k := rfl
theorem trN_s {k s : Nat} {h : Nat → Prop} {t1 t2 : trE} : (trN k s h t1 t2).s = s := rfl
theorem trN_h {k s : Nat} {h : Nat → Prop} {t1 t2 : trE} : (trN k s h t1 t2).h = h := rfl
theorem trN_a {k s : Nat} {h : Nat → Prop} {t1 t2 : trE} : (trN k s h t1 t2).sub false = t1 := rfl
theorem trN_b {k s : Nat} {h : Nat → Prop} {t1 t2 : trE} : (trN k s h t1 t2).sub true = t2 := rfl
theorem trI_k : trI.k = 1 := rfl
/-- all serial numbers in it -/
def RGS (t : trE) (z : Nat) : Prop := ∃ q, 2 ≤ (t q).1 ∧ ((t q).2.1 = z ∨ ((t q).1 = 4 ∧ (t q).2.2 z))
theorem RGS_I {z : Nat} : ¬ RGS trI z := fun ⟨_, h, _⟩ => by
  have h : 2 ≤ 1 := h
  omega
theorem RGS_sub {t : trE} {b : Bool} {z : Nat} (h : RGS (t.sub b) z) : RGS t z := by
  obtain ⟨q, h⟩ := h
  exact ⟨b :: q, h⟩
theorem RGS_N {k s : Nat} {h : Nat → Prop} {t1 t2 : trE} {z : Nat} (g : RGS (trN k s h t1 t2) z) : (2 ≤ k ∧ (s = z ∨ (k = 4 ∧ h z))) ∨ RGS t1 z ∨ RGS t2 z := by
  obtain ⟨q, g⟩ := g
  cases q with
  | nil => exact .inl g
  | cons b q =>
    cases b with
    | false => exact .inr (.inl ⟨q, g⟩)
    | true => exact .inr (.inr ⟨q, g⟩)
theorem RGS_s {t : trE} (h : 2 ≤ t.k) : RGS t t.s := ⟨[], h, .inl rfl⟩
theorem RGS_h {t : trE} {z : Nat} (h : t.k = 4) (g : t.h z) : RGS t z := ⟨[], by show 2 ≤ t.k; omega, .inr ⟨h, g⟩⟩
/-- a graph of types: kinds, first, second, what an arrow holds -/
abbrev tgD : Type := (Nat → Nat) × (Nat → Nat) × (Nat → Nat) × (Nat → Nat → Prop)
def tgD.ki (g : tgD) : Nat → Nat := g.1
def tgD.ka (g : tgD) : Nat → Nat := g.2.1
def tgD.kb (g : tgD) : Nat → Nat := g.2.2.1
def tgD.hl (g : tgD) : Nat → Nat → Prop := g.2.2.2
/-- from a type to the next -/
def tgD.ed (g : tgD) (c x : Nat) : Prop := (2 ≤ g.ki c ∧ g.ki c ≤ 4 ∧ x = g.ka c) ∨ ((g.ki c = 2 ∨ g.ki c = 4) ∧ x = g.kb c) ∨ (g.ki c = 4 ∧ g.hl c x)
/-- so many steps -/
def tgD.rn (g : tgD) : Nat → Nat → Nat → Prop
  | 0, c, x => c = x
  | n + 1, c, x => ∃ y, g.ed c y ∧ g.rn n y x
def tgD.rc (g : tgD) (c x : Nat) : Prop := ∃ n, g.rn n c x
theorem tgD.rc0 {g : tgD} {c : Nat} : g.rc c c := ⟨0, rfl⟩
theorem tgD.rcs {g : tgD} {c y x : Nat} (h : g.ed c y) (k : g.rc y x) : g.rc c x := by
  obtain ⟨n, k⟩ := k
  exact ⟨n + 1, y, h, k⟩
/-- trees for all types -/
def CONS (g : tgD) (E : Nat → trE) : Prop := ∀ c,
  (g.ki c = 1 → E c = trI) ∧ (g.ki c = 2 → ∃ s, E c = trN 2 s (fun _ => False) (E (g.ka c)) (E (g.kb c))) ∧ (g.ki c = 3 → ∃ s, E c = trN 3 s (fun _ => False) (E (g.ka c)) trI) ∧
  (g.ki c = 4 → ∃ s h, E c = trN 4 s h (E (g.ka c)) (E (g.kb c)) ∧ ∀ x, g.hl c x → ∀ z, RGS (E x) z → h z)
section TREES
variable {g : tgD} {E : Nat → trE} {c x z s : Nat}
theorem CONS.k (h : CONS g E) (h1 : 1 ≤ g.ki c) (h4 : g.ki c ≤ 4) : (E c).k = g.ki c := by
  have e : g.ki c = 1 ∨ g.ki c = 2 ∨ g.ki c = 3 ∨ g.ki c = 4 := by omega
  obtain ⟨a1, a2, a3, a4⟩ := h c
  rcases e with e | e | e | e
  · rw [a1 e, e]; rfl
  · obtain ⟨s, q⟩ := a2 e; rw [q, e]; rfl
  · obtain ⟨s, q⟩ := a3 e; rw [q, e]; rfl
  · obtain ⟨s, h', q, _⟩ := a4 e; rw [q, e]; rfl
theorem CONS.a (h : CONS g E) (h1 : 2 ≤ g.ki c) (h4 : g.ki c ≤ 4) : (E c).sub false = E (g.ka c) := by
  have e : g.ki c = 2 ∨ g.ki c = 3 ∨ g.ki c = 4 := by omega
  obtain ⟨_, a2, a3, a4⟩ := h c
  rcases e with e | e | e
  · obtain ⟨s, q⟩ := a2 e; rw [q]; rfl
  · obtain ⟨s, q⟩ := a3 e; rw [q]; rfl
  · obtain ⟨s, h', q, _⟩ := a4 e; rw [q]; rfl
theorem CONS.b (h : CONS g E) (h1 : g.ki c = 2 ∨ g.ki c = 4) : (E c).sub true = E (g.kb c) := by
  obtain ⟨_, a2, a3, a4⟩ := h c
  rcases h1 with e | e
  · obtain ⟨s, q⟩ := a2 e; rw [q]; rfl
  · obtain ⟨s, h', q, _⟩ := a4 e; rw [q]; rfl
theorem CONS.hl (h : CONS g E) (h1 : g.ki c = 4) (hx : g.hl c x) (hz : RGS (E x) z) : (E c).h z := by
  obtain ⟨s, h', q, k⟩ := (h c).2.2.2 h1
  rw [q]; exact k x hx z hz
/-- what is reached is in the tree -/
theorem CONS.ed (h : CONS g E) (he : g.ed c x) (hz : RGS (E x) z) : RGS (E c) z := by
  rcases he with ⟨h1, h4, e⟩ | ⟨h1, e⟩ | ⟨h1, e⟩
  · rw [e, ← h.a h1 h4] at hz; exact RGS_sub hz
  · rw [e, ← h.b h1] at hz; exact RGS_sub hz
  · exact RGS_h (by rw [h.k (by omega) (by omega), h1]) (h.hl h1 e hz)
theorem CONS.rc (h : CONS g E) (hr : g.rc c x) (hz : RGS (E x) z) : RGS (E c) z := by
  obtain ⟨n, hr⟩ := hr
  induction n generalizing c with
  | zero =>
    have hr : c = x := hr
    rw [hr]; exact hz
  | succ n ih =>
    obtain ⟨y, e, k⟩ := hr
    exact h.ed e (ih k)
/-- a region is told anew: s for the type K -/
noncomputable def upE (g : tgD) (E : Nat → trE) (K s : Nat) : List Bool → Nat → Nat × Nat × (Nat → Prop)
  | [], c => @ite _ (g.rc c K) (Classical.propDecidable _) ((E c).k, (if c = K then s else (E c).s), fun z => (E c).h z ∨ (g.ki c = 4 ∧ z = s)) (E c [])
  | b :: q, c => @ite _ (g.rc c K) (Classical.propDecidable _) (if b = false then upE g E K s q (g.ka c) else if g.ki c = 3 then trI q else upE g E K s q (g.kb c)) (E c (b :: q))
noncomputable def upR (g : tgD) (E : Nat → trE) (K s : Nat) : Nat → trE := fun c q => upE g E K s q c
variable {K : Nat}
theorem upR_no (h : ¬ g.rc c K) : upR g E K s c = E c := by
  funext q
  cases q with
  | nil => exact if_neg h
  | cons b q => exact if_neg h
theorem upR_yes (h : g.rc c K) (hC : CONS g E) (h1 : 2 ≤ g.ki c) (h4 : g.ki c ≤ 4) : upR g E K s c = trN (g.ki c) (if c = K then s else (E c).s) (fun z => (E c).h z ∨ (g.ki c = 4 ∧ z = s)) (upR g E K s (g.ka c)) (if g.ki c = 3 then trI else upR g E K s (g.kb c)) := by
  funext q
  cases q with
  | nil =>
    show upE g E K s [] c = _
    unfold upE
    rw [if_pos h, hC.k (by omega) h4]; rfl
  | cons b q =>
    show upE g E K s (b :: q) c = _
    unfold upE
    rw [if_pos h]
    cases b with
    | false => rfl
    | true =>
      rw [if_neg (by decide)]
      show _ = (if g.ki c = 3 then trI else upR g E K s (g.kb c)) q
      by_cases e : g.ki c = 3
      · rw [if_pos e, if_pos e]
      · rw [if_neg e, if_neg e]; rfl
theorem upE_rgs : ∀ (q : List Bool) (c : Nat), 2 ≤ (upE g E K s q c).1 → ((upE g E K s q c).2.1 = z ∨ ((upE g E K s q c).1 = 4 ∧ (upE g E K s q c).2.2 z)) → CONS g E → (∀ x, g.rc x K → 2 ≤ g.ki x ∧ g.ki x ≤ 4) → RGS (E c) z ∨ (z = s ∧ g.rc c K) := by
  intro q
  induction q with
  | nil =>
    intro c h1 h2 hC hK
    by_cases r : g.rc c K
    · unfold upE at h1 h2
      rw [if_pos r] at h1 h2
      rcases h2 with h2 | ⟨h2, h3⟩
      · by_cases e : c = K
        · have h2 : (if c = K then s else (E c).s) = z := h2
          rw [if_pos e] at h2
          exact .inr ⟨h2.symm, r⟩
        · have h2 : (if c = K then s else (E c).s) = z := h2
          rw [if_neg e] at h2
          exact .inl (h2 ▸ RGS_s h1)
      · have h2 : (E c).k = 4 := h2
        rcases h3 with h3 | h3
        · exact .inl (RGS_h h2 h3)
        · exact .inr ⟨h3.2, r⟩
    · unfold upE at h1 h2
      rw [if_neg r] at h1 h2
      exact .inl ⟨[], h1, h2⟩
  | cons b q ih =>
    intro c h1 h2 hC hK
    by_cases r : g.rc c K
    · obtain ⟨k1, k4⟩ := hK c r
      unfold upE at h1 h2
      rw [if_pos r] at h1 h2
      have up : ∀ x, g.ed c x → (RGS (E x) z ∨ (z = s ∧ g.rc x K)) → RGS (E c) z ∨ (z = s ∧ g.rc c K) := fun x hx hh => by
        rcases hh with hh | hh
        · exact .inl (hC.ed hx hh)
        · exact .inr ⟨hh.1, r⟩
      cases b with
      | false =>
        rw [if_pos rfl] at h1 h2
        exact up _ (.inl ⟨k1, k4, rfl⟩) (ih _ h1 h2 hC hK)
      | true =>
        rw [if_neg (by decide)] at h1 h2
        by_cases e : g.ki c = 3
        · rw [if_pos e] at h1
          exact absurd (show 2 ≤ 1 from h1) (by omega)
        · rw [if_neg e] at h1 h2
          exact up _ (.inr (.inl ⟨by omega, rfl⟩)) (ih _ h1 h2 hC hK)
    · unfold upE at h1 h2
      rw [if_neg r] at h1 h2
      exact .inl ⟨b :: q, h1, h2⟩
theorem upR_rgs (hC : CONS g E) (hK : ∀ x, g.rc x K → 2 ≤ g.ki x ∧ g.ki x ≤ 4) (h : RGS (upR g E K s c) z) : RGS (E c) z ∨ (z = s ∧ g.rc c K) := by
  obtain ⟨q, h1, h2⟩ := h
  exact upE_rgs q c h1 h2 hC hK
theorem upR_cons (hC : CONS g E) (hK : ∀ x, g.rc x K → 2 ≤ g.ki x ∧ g.ki x ≤ 4) : CONS g (upR g E K s) := by
  intro c
  by_cases r : g.rc c K
  · obtain ⟨k1, k4⟩ := hK c r
    have e := upR_yes (s := s) r hC k1 k4
    have fh : g.ki c ≠ 4 → (fun z => (E c).h z ∨ (g.ki c = 4 ∧ z = s)) = (fun _ => False) := fun h4 => by
      funext z
      refine propext ⟨fun hh => ?_, fun hh => hh.elim⟩
      rcases hh with hh | hh
      · have e' : g.ki c = 2 ∨ g.ki c = 3 := by omega
        rcases e' with e' | e'
        · obtain ⟨s', q⟩ := (hC c).2.1 e'
          rw [q] at hh; exact hh
        · obtain ⟨s', q⟩ := (hC c).2.2.1 e'
          rw [q] at hh; exact hh
      · exact h4 hh.1
    refine ⟨fun h => by omega, fun h => ⟨(if c = K then s else (E c).s), ?_⟩, fun h => ⟨(if c = K then s else (E c).s), ?_⟩, fun h => ⟨(if c = K then s else (E c).s), fun z => (E c).h z ∨ (g.ki c = 4 ∧ z = s), ?_, ?_⟩⟩
    · rw [fh (by omega), if_neg (show ¬ g.ki c = 3 by omega), h] at e; exact e
    · rw [fh (by omega), if_pos h, h] at e; exact e
    · rw [if_neg (show ¬ g.ki c = 3 by omega)] at e
      rw [e, h]
    · intro x hx z hz
      rcases upR_rgs hC hK hz with q | q
      · exact .inl (hC.hl h hx q)
      · exact .inr ⟨h, q.1⟩
  · have nx : ∀ x, g.ed c x → upR g E K s x = E x := fun x hx => upR_no (fun hh => r (tgD.rcs hx hh))
    obtain ⟨a1, a2, a3, a4⟩ := hC c
    rw [upR_no r]
    refine ⟨a1, fun h => ?_, fun h => ?_, fun h => ?_⟩
    · rw [nx _ (.inl ⟨by omega, by omega, rfl⟩), nx _ (.inr (.inl ⟨.inl h, rfl⟩))]; exact a2 h
    · rw [nx _ (.inl ⟨by omega, by omega, rfl⟩)]; exact a3 h
    · rw [nx _ (.inl ⟨by omega, by omega, rfl⟩), nx _ (.inr (.inl ⟨.inr h, rfl⟩))]
      obtain ⟨s', h', q, k⟩ := a4 h
      exact ⟨s', h', q, fun x hx z hz => by rw [nx x (.inr (.inr ⟨h, hx⟩))] at hz; exact k x hx z hz⟩
theorem upR_self (hC : CONS g E) (h1 : 2 ≤ g.ki K) (h4 : g.ki K ≤ 4) : (upR g E K s K).s = s := by
  rw [upR_yes tgD.rc0 hC h1 h4, trN_s, if_pos rfl]
theorem upR_other (hC : CONS g E) (h1 : 2 ≤ g.ki c) (h4 : g.ki c ≤ 4) (h : c ≠ K) : (upR g E K s c).s = (E c).s := by
  by_cases r : g.rc c K
  · rw [upR_yes r hC h1 h4, trN_s, if_neg h]
  · rw [upR_no r]
/-- a call: what is reached from the signature is as at its copies, all else is fresh -/
noncomputable def caE (g : tgD) (E : Nat → trE) (SG : Nat → Prop) (hm : Nat → Nat) (B : Nat) : List Bool → Nat → Nat × Nat × (Nat → Prop)
  | [], c => @ite _ (SG c) (Classical.propDecidable _) (E (hm c) []) (if 2 ≤ g.ki c ∧ g.ki c ≤ 4 then (g.ki c, 0, fun z => g.ki c = 4 ∧ z < B) else trI [])
  | b :: q, c => @ite _ (SG c) (Classical.propDecidable _) (E (hm c) (b :: q)) (if 2 ≤ g.ki c ∧ g.ki c ≤ 4 then (if b = false then caE g E SG hm B q (g.ka c) else if g.ki c = 3 then trI q else caE g E SG hm B q (g.kb c)) else trI (b :: q))
noncomputable def caT (g : tgD) (E : Nat → trE) (SG : Nat → Prop) (hm : Nat → Nat) (B : Nat) : Nat → trE := fun c q => caE g E SG hm B q c
variable {SG : Nat → Prop} {hm : Nat → Nat} {B : Nat}
theorem caT_sg (h : SG c) : caT g E SG hm B c = E (hm c) := by
  funext q
  cases q with
  | nil => exact if_pos h
  | cons b q => exact if_pos h
theorem caT_no (h : ¬ SG c) (h1 : 2 ≤ g.ki c) (h4 : g.ki c ≤ 4) : caT g E SG hm B c = trN (g.ki c) 0 (fun z => g.ki c = 4 ∧ z < B) (caT g E SG hm B (g.ka c)) (if g.ki c = 3 then trI else caT g E SG hm B (g.kb c)) := by
  funext q
  cases q with
  | nil =>
    show caE g E SG hm B [] c = _
    unfold caE
    rw [if_neg h, if_pos ⟨h1, h4⟩]; rfl
  | cons b q =>
    show caE g E SG hm B (b :: q) c = _
    unfold caE
    rw [if_neg h, if_pos ⟨h1, h4⟩]
    cases b with
    | false => rfl
    | true =>
      rw [if_neg (by decide)]
      show _ = (if g.ki c = 3 then trI else caT g E SG hm B (g.kb c)) q
      by_cases e : g.ki c = 3
      · rw [if_pos e, if_pos e]
      · rw [if_neg e, if_neg e]; rfl
theorem caT_int (h : ¬ SG c) (h1 : ¬ (2 ≤ g.ki c ∧ g.ki c ≤ 4)) : caT g E SG hm B c = trI := by
  funext q
  cases q with
  | nil =>
    show caE g E SG hm B [] c = _
    unfold caE
    rw [if_neg h, if_neg h1]
  | cons b q =>
    show caE g E SG hm B (b :: q) c = _
    unfold caE
    rw [if_neg h, if_neg h1]
theorem caE_rgs (hB : 0 < B) (hE : ∀ c z, RGS (E c) z → z < B) : ∀ (q : List Bool) (c : Nat), 2 ≤ (caE g E SG hm B q c).1 → ((caE g E SG hm B q c).2.1 = z ∨ ((caE g E SG hm B q c).1 = 4 ∧ (caE g E SG hm B q c).2.2 z)) → z < B := by
  intro q
  induction q with
  | nil =>
    intro c h1 h2
    unfold caE at h1 h2
    by_cases r : SG c
    · rw [if_pos r] at h1 h2
      exact hE (hm c) z ⟨[], h1, h2⟩
    · rw [if_neg r] at h1 h2
      by_cases k : 2 ≤ g.ki c ∧ g.ki c ≤ 4
      · rw [if_pos k] at h1 h2
        rcases h2 with h2 | h2
        · have h2 : 0 = z := h2
          omega
        · exact h2.2.2
      · rw [if_neg k] at h1
        exact absurd (show 2 ≤ 1 from h1) (by omega)
  | cons b q ih =>
    intro c h1 h2
    unfold caE at h1 h2
    by_cases r : SG c
    · rw [if_pos r] at h1 h2
      exact hE (hm c) z ⟨b :: q, h1, h2⟩
    · rw [if_neg r] at h1 h2
      by_cases k : 2 ≤ g.ki c ∧ g.ki c ≤ 4
      · rw [if_pos k] at h1 h2
        cases b with
        | false =>
          rw [if_pos rfl] at h1 h2
          exact ih _ h1 h2
        | true =>
          rw [if_neg (by decide)] at h1 h2
          by_cases e : g.ki c = 3
          · rw [if_pos e] at h1
            exact absurd (show 2 ≤ 1 from h1) (by omega)
          · rw [if_neg e] at h1 h2
            exact ih _ h1 h2
      · rw [if_neg k] at h1
        exact absurd (show 2 ≤ 1 from h1) (by omega)
theorem caT_rgs (hB : 0 < B) (hE : ∀ c z, RGS (E c) z → z < B) (h : RGS (caT g E SG hm B c) z) : z < B := by
  obtain ⟨q, h1, h2⟩ := h
  exact caE_rgs hB hE q c h1 h2
/-- a map of the graph's part -/
def HOMg (g : tgD) (SG : Nat → Prop) (hm : Nat → Nat) : Prop := ∀ c, SG c → (1 ≤ g.ki c → g.ki (hm c) = g.ki c) ∧ (2 ≤ g.ki c → g.ki c ≤ 4 → SG (g.ka c) ∧ g.ka (hm c) = hm (g.ka c)) ∧ (g.ki c = 2 ∨ g.ki c = 4 → SG (g.kb c) ∧ g.kb (hm c) = hm (g.kb c)) ∧ (g.ki c = 4 → ∀ x, g.hl c x → SG x ∧ g.hl (hm c) (hm x))
theorem caT_cons (hC : CONS g E) (hH : HOMg g SG hm) (hB : 0 < B) (hE : ∀ c z, RGS (E c) z → z < B) : CONS g (caT g E SG hm B) := by
  intro c
  by_cases r : SG c
  · obtain ⟨h1, h2, h3, h4⟩ := hH c r
    obtain ⟨a1, a2, a3, a4⟩ := hC (hm c)
    rw [caT_sg r]
    refine ⟨fun e => a1 (by rw [h1 (by omega), e]), fun e => ?_, fun e => ?_, fun e => ?_⟩
    · obtain ⟨k1, k2⟩ := h2 (by omega) (by omega)
      obtain ⟨k3, k4⟩ := h3 (.inl e)
      rw [caT_sg k1, caT_sg k3, ← k2, ← k4]
      exact a2 (by rw [h1 (by omega), e])
    · obtain ⟨k1, k2⟩ := h2 (by omega) (by omega)
      rw [caT_sg k1, ← k2]
      exact a3 (by rw [h1 (by omega), e])
    · obtain ⟨k1, k2⟩ := h2 (by omega) (by omega)
      obtain ⟨k3, k4⟩ := h3 (.inr e)
      rw [caT_sg k1, caT_sg k3, ← k2, ← k4]
      obtain ⟨s, h', q, k⟩ := a4 (by rw [h1 (by omega), e])
      refine ⟨s, h', q, fun x hx z hz => ?_⟩
      obtain ⟨m1, m2⟩ := h4 e x hx
      rw [caT_sg m1] at hz
      exact k _ m2 z hz
  · refine ⟨fun e => caT_int r (by omega), fun e => ⟨0, ?_⟩, fun e => ⟨0, ?_⟩, fun e => ⟨0, (fun z => g.ki c = 4 ∧ z < B), ?_, ?_⟩⟩
    · rw [caT_no r (by omega) (by omega), if_neg (by omega), e]
      congr 1
      funext z
      exact propext ⟨fun h => by omega, fun h => h.elim⟩
    · rw [caT_no r (by omega) (by omega), if_pos e, e]
      congr 1
      funext z
      exact propext ⟨fun h => by omega, fun h => h.elim⟩
    · rw [caT_no r (by omega) (by omega), if_neg (by omega), e]
    · intro x _ z hz
      exact ⟨e, caT_rgs hB hE hz⟩
end TREES
