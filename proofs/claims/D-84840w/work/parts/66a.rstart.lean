/-! RUNS, BOTH: the start of a run, the ghost -/
/-- trees for the start: serial numbers are given -/
def inT (g : tgD) (sr : Nat → Nat) (B : Nat) : List Bool → Nat → Nat × Nat × (Nat → Prop)
  | [], c => if g.ki c = 2 ∨ g.ki c = 3 ∨ g.ki c = 4 then (g.ki c, sr c, if g.ki c = 4 then (fun z => z < B) else (fun _ => False)) else (1, 0, fun _ => False)
  | false :: q, c => if g.ki c = 2 ∨ g.ki c = 3 ∨ g.ki c = 4 then inT g sr B q (g.ka c) else (1, 0, fun _ => False)
  | true :: q, c => if g.ki c = 2 ∨ g.ki c = 4 then inT g sr B q (g.kb c) else (1, 0, fun _ => False)
def inE (g : tgD) (sr : Nat → Nat) (B : Nat) : Nat → trE := fun c q => inT g sr B q c
/-- nothing is there yet -/
def stX (D : pgD) : dyD := (fun _ => (0, 0), ((fun _ => ((1, 0), (0, 0), [], [])), 0, 1), fun _ => 0, fun _ => (D.fc, 0, -1), fun _ _ => 2000, fun _ _ => 5000)
section START
variable {D : pgD} {m : Nat} {rg : rgD} {cd : cdD} {T : tsD} {vd W : Nat → Nat} {M wd pgs ev : Nat} {g : tgD} {sr : Nat → Nat} {B : Nat} {i : Nat}
theorem inT_val (hs : ∀ c, sr c < B) : ∀ (q : List Bool) (c : Nat), (inT g sr B q c).1 ≤ 1 ∨ ((inT g sr B q c).2.1 < B ∧ ∀ z, (inT g sr B q c).2.2 z → z < B) := by
  intro q
  induction q with
  | nil =>
    intro c
    show (ite _ _ _ : Nat × Nat × (Nat → Prop)).1 ≤ 1 ∨ _
    unfold inT
    by_cases h : g.ki c = 2 ∨ g.ki c = 3 ∨ g.ki c = 4
    · rw [if_pos h]
      refine .inr ⟨hs c, fun z hz => ?_⟩
      have hz : (if g.ki c = 4 then (fun z => z < B) else (fun _ => False)) z := hz
      by_cases h4 : g.ki c = 4
      · rw [if_pos h4] at hz; exact hz
      · rw [if_neg h4] at hz; exact hz.elim
    · rw [if_neg h]; exact .inl (Nat.le_refl _)
  | cons b q ih =>
    intro c
    cases b with
    | false =>
      show (inT g sr B (false :: q) c).1 ≤ 1 ∨ _
      unfold inT
      by_cases h : g.ki c = 2 ∨ g.ki c = 3 ∨ g.ki c = 4
      · rw [if_pos h]; exact ih _
      · rw [if_neg h]; exact .inl (Nat.le_refl _)
    | true =>
      show (inT g sr B (true :: q) c).1 ≤ 1 ∨ _
      unfold inT
      by_cases h : g.ki c = 2 ∨ g.ki c = 4
      · rw [if_pos h]; exact ih _
      · rw [if_neg h]; exact .inl (Nat.le_refl _)
theorem inE_rgs (hs : ∀ c, sr c < B) {c z : Nat} (h : RGS (inE g sr B c) z) : z < B := by
  obtain ⟨q, h1, h2⟩ := h
  rcases inT_val (g := g) hs q c with h3 | ⟨h3, h4⟩
  · have h1 : 2 ≤ (inT g sr B q c).1 := h1; omega
  · rcases h2 with e | ⟨_, e⟩
    · have e : (inT g sr B q c).2.1 = z := e; omega
    · exact h4 z e
theorem inE_cons (hs : ∀ c, sr c < B) : CONS g (inE g sr B) := by
  intro c
  refine ⟨fun h => ?_, fun h => ⟨sr c, ?_⟩, fun h => ⟨sr c, ?_⟩, fun h => ⟨sr c, fun z => z < B, ?_, fun x _ z hz => inE_rgs hs hz⟩⟩
  · funext q
    show inT g sr B q c = _
    cases q with
    | nil => unfold inT; rw [if_neg (by omega)]; rfl
    | cons b q => cases b <;> (unfold inT; rw [if_neg (by omega)]; rfl)
  · funext q
    show inT g sr B q c = _
    cases q with
    | nil => unfold inT; rw [if_pos (by omega), if_neg (by omega), h]; rfl
    | cons b q => cases b <;> (unfold inT; rw [if_pos (by omega)]; rfl)
  · funext q
    show inT g sr B q c = _
    cases q with
    | nil => unfold inT; rw [if_pos (by omega), if_neg (by omega), h]; rfl
    | cons b q =>
      cases b with
      | false => unfold inT; rw [if_pos (by omega)]; rfl
      | true => unfold inT; rw [if_neg (by omega)]; rfl
  · funext q
    show inT g sr B q c = _
    cases q with
    | nil => unfold inT; rw [if_pos (by omega), if_pos h, h]; rfl
    | cons b q => cases b <;> (unfold inT; rw [if_pos (by omega)]; rfl)
theorem inE_s {c : Nat} (h : 2 ≤ g.ki c) (h4 : g.ki c ≤ 4) : (inE g sr B c).s = sr c := by
  show (inT g sr B [] c).2.1 = _
  unfold inT
  rw [if_pos (by omega)]
theorem mkL_at : ∀ (l : List Nat) (X : dyD) (nr : Nat), l.Nodup → (∀ j k : Nat, l[j]? = some k → (mkL X i nr l).aR i k = nr + j) ∧ (∀ k, k ∉ l → (mkL X i nr l).aR i k = X.aR i k) ∧ (∀ r, r < nr → (mkL X i nr l).ser r = X.ser r) ∧ ∀ t, t < l.length → (mkL X i nr l).ser (nr + t) = X.B + t := by
  intro l
  induction l with
  | nil => intro X nr _; exact ⟨fun j k h => (by cases h), fun _ _ => rfl, fun _ _ => rfl, fun t ht => absurd ht (Nat.not_lt_zero t)⟩
  | cons k l ih =>
    intro X nr hnd
    obtain ⟨n1, n2⟩ := List.nodup_cons.mp hnd
    obtain ⟨a1, a2, a3, a4⟩ := ih (mkX X i k nr) (nr + 1) n2
    refine ⟨fun j k' h => ?_, fun k' h => ?_, fun r hr => ?_, fun t ht => ?_⟩
    · cases j with
      | zero =>
        have e : k = k' := by injection h
        subst e
        show (mkL (mkX X i k nr) i (nr + 1) l).aR i k = _
        rw [a2 k n1]
        show (if i = i ∧ k = k then nr else _) = nr
        rw [if_pos ⟨rfl, rfl⟩]
      | succ j =>
        show (mkL (mkX X i k nr) i (nr + 1) l).aR i k' = _
        rw [a1 j k' h]; omega
    · show (mkL (mkX X i k nr) i (nr + 1) l).aR i k' = _
      rw [a2 k' (fun e => h (List.mem_cons_of_mem _ e))]
      show (if i = i ∧ k' = k then nr else X.aR i k') = _
      rw [if_neg (fun e => h (by rw [e.2]; exact List.mem_cons_self))]
    · show (mkL (mkX X i k nr) i (nr + 1) l).ser r = _
      rw [a3 r (by omega)]
      exact uq_ne (by omega)
    · show (mkL (mkX X i k nr) i (nr + 1) l).ser (nr + t) = _
      cases t with
      | zero =>
        rw [a3 (nr + 0) (by omega)]
        exact uq_self
      | succ t =>
        have ht : t < l.length := Nat.lt_of_succ_lt_succ ht
        rw [show nr + (t + 1) = nr + 1 + t by omega, a4 t ht]
        show X.B + 1 + t = _; omega
/-- the ghost at the start -/
theorem RGI.start (hE : ENV D m rg cd T vd W M wd pgs ev) (hbk : D.bk D.fc = 0) : ∃ (E : Nat → trE) (ty : Nat → trE) (av : Nat → Prop), RGI D rg cd T vd W M wd (mkL (stX D) 0 0 (rg.gl D.fc)) [(0, D.bP (D.fc + 1) - 1, 0)] 0 E 0 ty (rg.gl D.fc).length av 0 0 0 := by
  obtain ⟨X, hX⟩ : ∃ X, X = mkL (stX D) 0 0 (rg.gl D.fc) := ⟨_, rfl⟩
  obtain ⟨gl, hgl⟩ : ∃ gl, gl = rg.gl D.fc := ⟨_, rfl⟩
  obtain ⟨p, hp⟩ : ∃ p, p = D.bP (D.fc + 1) - 1 := ⟨_, rfl⟩
  have hnd : gl.Nodup := by rw [hgl]; exact nfil_nodup _
  have hnK := hE.1.2.2.2.2.2.2.2.2 D.fc (Nat.le_refl _)
  have hlen : gl.length ≤ 60 := by rw [hgl]; have : (rg.gl D.fc).length ≤ rg.nK D.fc := nfil_len _; omega
  obtain ⟨B1, B2, B3, B4, B5, B6⟩ := mkL_B (i := 0) (rg.gl D.fc) (stX D) 0
  obtain ⟨a1, a2, a3, a4⟩ := mkL_at (i := 0) gl (stX D) 0 hnd
  rw [hgl, ← hX] at a1 a2 a4
  rw [← hX] at B1 B2 B3 B4 B5 B6 ⊢
  rw [← hgl] at a1 a2 a4 B1 ⊢
  rw [← hp]
  have hB : X.B = 1 + gl.length := B1
  have hno : X.no = 0 := B4
  have hPf := hE.1.1.2.2 D.fc (Nat.le_refl _)
  have hpp : D.bP D.fc ≤ p ∧ p < D.bP (D.fc + 1) ∧ p + 1 = D.bP (D.fc + 1) := by have := hPf.1.1; omega
  have hsl : D.sl p = [] := by rw [hp, hPf.2.1.2, hbk]; rfl
  have hst : D.st p = D.bP D.fc := by rw [hp]; exact hPf.2.1.1
  have hfr : ∀ j, X.fr j = (D.fc, 0, -1) := fun j => by rw [B5]; rfl
  have hff : ∀ j, X.ff j = D.fc := fun j => by unfold dyD.ff; rw [hfr]
  have hbs : ∀ j, X.bs j = 0 := fun j => by unfold dyD.bs; rw [hfr]
  -- serial numbers of types
  have hsr : ∃ sr : Nat → Nat, (∀ c, sr c < 1 + gl.length) ∧ ∀ j k : Nat, gl[j]? = some k → sr (T.kC D.fc k) = 1 + j := by
    have h : ∀ c, ∃ y, y < 1 + gl.length ∧ ∀ j k : Nat, gl[j]? = some k → T.kC D.fc k = c → y = 1 + j := fun c => by
      by_cases q : ∃ j k : Nat, gl[j]? = some k ∧ T.kC D.fc k = c
      · obtain ⟨j, k, h1, h2⟩ := q
        have hj := (List.getElem?_eq_some_iff.mp h1).1
        refine ⟨1 + j, by omega, fun j' k' h1' h2' => ?_⟩
        have m1 := gl_mem.mp (by rw [← hgl]; exact List.mem_of_getElem? h1)
        have m2 := gl_mem.mp (by rw [← hgl]; exact List.mem_of_getElem? h1')
        have ek := (hE.1.2.2.2.2.2.1 D.fc k (Nat.le_refl _) m1.1 m1.2.1).2.1 k' m2.1 m2.2.1 (by rw [h2', h2])
        subst ek
        have hj' := (List.getElem?_eq_some_iff.mp h1').1
        have := (List.getElem?_inj hj hnd).mp (h1.trans h1'.symm)
        omega
      · exact ⟨0, by omega, fun j k h1 h2 => absurd ⟨j, k, h1, h2⟩ q⟩
    refine ⟨fun c => Classical.choose (h c), fun c => (Classical.choose_spec (h c)).1, fun j k hjk => (Classical.choose_spec (h _)).2 j k hjk rfl⟩
  obtain ⟨sr, sr1, sr2⟩ := hsr
  obtain ⟨E, hEE⟩ : ∃ E, E = inE T.g sr (1 + gl.length) := ⟨_, rfl⟩
  have hcons : CONS T.g E := by rw [hEE]; exact inE_cons sr1
  have hrgs : ∀ c z, RGS (E c) z → z < X.B := fun c z h => by rw [hB]; rw [hEE] at h; exact inE_rgs sr1 h
  have hserl : ∀ j, j < gl.length → X.ser j = 1 + j := fun j hj => by have := a4 j hj; rw [Nat.zero_add] at this; exact this
  have hav : ∀ k, k ∈ gl → 1 ≤ k ∧ k ≤ rg.nK D.fc ∧ X.aR 0 k < gl.length ∧ X.ser (X.aR 0 k) = (E (T.kC D.fc k)).s := fun k hk => by
    have m1 := gl_mem.mp (by rw [← hgl]; exact hk)
    obtain ⟨j, hj⟩ := List.mem_iff_getElem?.mp hk
    have hjl := (List.getElem?_eq_some_iff.mp hj).1
    have ea := a1 j k hj
    rw [Nat.zero_add] at ea
    have hki := (hE.1.2.2.2.2.2.1 D.fc k (Nat.le_refl _) m1.1 m1.2.1).1
    refine ⟨m1.1, m1.2.1, by omega, ?_⟩
    rw [ea, hserl j hjl, hEE, inE_s hki (hE.1.2.2.2.1 _), sr2 j k hj]
  refine ⟨E, fun _ => trI, fun k => k ∈ gl, .inl ⟨rfl, ⟨⟨by rw [hff]; exact Nat.le_refl _, by rw [hff]; exact hpp.1, by rw [hff]; exact hpp.2.1, ?_, by rw [hsl]; rfl⟩, ⟨hcons, hrgs, fun k hk => by rw [hff]; exact hav k hk⟩, fun v hv => by rw [hsl] at hv; exact (List.not_mem_nil hv).elim, fun q k q1 q2 hq => ?_, fun k r hk hr => ?_⟩, ?_, ⟨rfl, rfl, hcons, by rw [uq_self, hp]⟩⟩, Nat.le_refl _, fun k hk => absurd hk (Nat.not_lt_zero k), ⟨fun o o1 o2 => by omega, fun o o1 o2 => by omega, fun o o1 o2 => by omega⟩, fun j _ => by rw [hff]; exact Nat.le_refl _, ⟨?_, ?_, by omega, by omega, by omega, fun r hr => by rw [hserl r hr]; omega⟩, ?_⟩
  · unfold cdD.fn dyD.fj; rw [hsl, hfr]
  · rw [hff] at hq ⊢
    obtain ⟨h1, h2, h3, _⟩ := hE.1.2.2.2.2.2.2.1 D.fc q k (Nat.le_refl _) (by omega) (by omega) hq
    rcases h3 with h3 | ⟨r, h3, h4, h5, _⟩
    · exact .inl (by rw [hgl]; exact gl_mem.mpr ⟨h1, h2, h3⟩)
    · exact .inr ⟨r, h3, by omega, by omega⟩
  · have m1 := gl_mem.mp (by rw [← hgl]; exact hk)
    rw [hff] at hr
    omega
  · rw [hbs, hp, hE.1.2.1.1 D.fc (Nat.le_refl _), hbk]
  · have o1 : opN [(0, p, 0)] = (if 1 ≤ 0 ∧ 0 ≤ 6 then 1 else 0) + 0 := rfl
    rw [if_neg (by omega)] at o1
    omega
  · have o2 : nE [(0, p, 0)] = (if 0 = 7 then 1 else 0) + 0 := rfl
    rw [if_neg (by omega)] at o2
    omega
  · refine ⟨.inl ⟨rfl, Nat.le_refl _⟩, rfl, ⟨fun e => absurd (show (0 : Nat) = 8 from e) (by decide), trivial⟩, ⟨fun _ => ?_, trivial⟩, fun e he => ?_⟩
    · have := hE.2.1.2.1 p
      show 0 + W p ≤ M
      omega
    · have := List.mem_singleton.mp he
      subst this
      exact ⟨fun e => absurd (show 1 ≤ (0 : Nat) from e) (by decide), fun e => absurd (show (0 : Nat) = 5 from e) (by decide)⟩
end START
