/-! RUNS, BOTH: what holds all along -/
/-- what is known of the program, of the pool -/
def ENV (D : pgD) (m : Nat) (rg : rgD) (cd : cdD) (T : tsD) (vd W : Nat → Nat) (M wd pgs ev : Nat) : Prop :=
  SPF D m rg cd T vd ∧ ((∀ f p w k : Nat, f ≤ D.fc → D.bP f ≤ p → p < D.bP (f + 1) → (D.kd p)[w]? = some k → cwt D p + W k ≤ W p) ∧ (∀ p, W p ≤ M) ∧ M ≤ 490) ∧ (16 ≤ wd ∧ wd ≤ 128 ∧ 8 ≤ pgs ∧ pgs ≤ 400 ∧ ev ≤ 10000) ∧
  (∀ f k, f ≤ D.fc → k < rg.nK f → -1 ≤ rg.ow f k ∧ rg.ow f k < 4101) ∧ (∀ j, j < D.bF (D.fc + 1) → (cd.cg j).length + (rg.kp j).length ≤ 100 ∧ (rg.kp j).Nodup ∧ ∀ v, v ∈ cd.cg j → v < D.tV (D.fc + 1)) ∧ ∀ p v, p < D.bP (D.fc + 1) → v ∈ D.sl p → v < D.tV (D.fc + 1) ∧ (cd.vo v ≠ cd.fn D p → 0 ≤ cd.fn D p)
/-- of the ghost state -/
def RGI (D : pgD) (rg : rgD) (cd : cdD) (T : tsD) (vd W : Nat → Nat) (M wd : Nat) (X : dyD) (K : List (Nat × Nat × Nat)) (i : Nat) (E : Nat → trE) (n : Nat) (ty : Nat → trE) (nr : Nat) (av : Nat → Prop) (L dd st : Nat) : Prop :=
  TK D rg cd T vd X K i E n ty nr av L dd ∧ L ≤ n ∧ (∀ k, k < n → VTy D rg cd T X.hp X.no X.B (X.sv k) (ty k) ∧ LVv X.hp X.no X.ser nr (X.sv k) ∧ (X.sv k).1 ≤ 2) ∧ (HOK X.hp X.no ∧ H200 D rg cd X ∧ ∀ o, 1 ≤ o → o ≤ X.no → szO (X.hp o) ≤ wd) ∧ (∀ j, j ≤ i → X.ff j ≤ D.fc) ∧ (X.no + opN K ≤ st ∧ nE K ≤ st ∧ st ≤ 30000 ∧ 1 ≤ X.B ∧ X.B ≤ 60 * st + 62 ∧ ∀ r, r < nr → X.ser r < X.B) ∧ (KGr D K 0 1 ∧ nR K = i ∧ okF D M K ∧ SPI D W M K ∧ EOK D K)
/-- what the model has -/
def RMm (D : pgD) (rg : rgD) (cd : cdD) (vd : Nat → Nat) (N : Nat) (G : tG) (rr : Nat → Nat) (wd pgs ev : Nat) (X : dyD) (K : List (Nat × Nat × Nat)) (i n nr : Nat) (fn : Nat → Nat × Nat) (s : cSt) (st : Nat) (oa : Nat → Nat) (fil mt : Nat) (τ : tvS) : Prop :=
  RSm D rg cd vd N G rr τ ∧ MCt K τ ∧ MFr X i τ ∧ MSk fn s X n nr st oa fil mt pgs wd ev τ ∧ rd τ 123 122 = 1
/-- what the component has -/
def RMc (D : pgD) (rg : rgD) (cd : cdD) (R : Nat → Int32) (cs wd pgs ev : Nat) (X : dyD) (i n nr : Nat) (fn : Nat → Nat × Nat) (s : cSt) (st : Nat) (pl : Nat → Nat) (pg : Nat → List Nat) (fl : List Nat) (bk : Nat → Nat) (a : Nat) (σ : tvS) : Prop :=
  RSc D rg cd cs σ ∧ CPs D X n nr wd pgs s pl pg fl σ ∧ CMf rg X bk i σ ∧ CMc fn X.B X.no st ev nr σ ∧ rd σ 117 8 = i32 (a : Int) ∧ rd σ 95 = R
section RUNFACTS
variable {σ τ : tvS} {D : pgD} {m : Nat} {rg : rgD} {cd : cdD} {T : tsD} {vd W : Nat → Nat} {M wd pgs ev : Nat} {X : dyD} {K : List (Nat × Nat × Nat)} {i : Nat} {E : Nat → trE} {n : Nat} {ty : Nat → trE} {nr : Nat} {av : Nat → Prop} {L dd st : Nat} {s : cSt} {pl : Nat → Nat} {pg : Nat → List Nat} {fl : List Nat}
theorem RGI.vok (h : RGI D rg cd T vd W M wd X K i E n ty nr av L dd st) : ∀ k, k < n → VOK X.no (X.sv k) := fun k hk => (h.2.2.1 k hk).2.1.1
theorem RGI.rco (h : RGI D rg cd T vd W M wd X K i E n ty nr av L dd st) {o : Nat} (ho : RCO X n o) : 1 ≤ o ∧ o ≤ X.no ∧ (X.hp o).gi < nr ∧ X.ser (X.hp o).gi = (X.hp o).se ∧ ∀ r s, (r, s) ∈ (X.hp o).kp → r < nr ∧ X.ser r = s := by
  obtain ⟨k, k1, k2⟩ := ho
  obtain ⟨⟨g1, g2⟩, g3⟩ := (h.2.2.1 k k1).2.1.2 o k2
  exact ⟨k2.lt.1, k2.lt.2, g1, g2, g3⟩
theorem RGI.vkd (h : RGI D rg cd T vd W M wd X K i E n ty nr av L dd st) : VKd X n := ⟨fun k hk => (h.2.2.1 k hk).2.2, fun o o1 o2 w hw => (h.2.2.2.1.2.1 o o1 o2).1.2.2.2.2.1 w hw⟩
theorem RGI.no_le (h : RGI D rg cd T vd W M wd X K i E n ty nr av L dd st) : X.no ≤ 30000 := by
  obtain ⟨_, _, _, _, _, ⟨h1, _, h2, _⟩, _⟩ := h
  omega
theorem PGF.fnb (hF : PGF D m) {f p : Nat} (hf : f ≤ D.fc) (h1 : D.bP f ≤ p) (h2 : p < D.bP (f + 1)) (hk : D.K p = 17) : D.vl p < D.bF (D.fc + 1) ∧ D.bF f ≤ D.vl p ∧ D.vl p < D.bF (f + 1) ∧ D.gv (D.vl p) < D.tV (D.fc + 1) := by
  obtain ⟨_, _, _, _, _, _, h7, h8⟩ := (hF.2.2 f hf).2.2.1 p h1 h2
  obtain ⟨a1, a2⟩ := h7 hk
  obtain ⟨_, b1, b2⟩ := hF.le (D.fc + 1 - (f + 1)) (f + 1) (by omega)
  have := (h8 (D.gv (D.vl p)) (by unfold pgD.bd; rw [if_pos hk]; exact List.mem_cons_self)).2
  exact ⟨by omega, a1, a2, by omega⟩
theorem RGI.gch (hE : ENV D m rg cd T vd W M wd pgs ev) (h : RGI D rg cd T vd W M wd X K i E n ty nr av L dd st) : GCH D rg cd X n nr wd := by
  have hno := h.no_le
  refine ⟨h.2.2.2.1.1, hno, fun o ho => ?_⟩
  obtain ⟨o1, o2, o3, o4, _⟩ := h.rco ho
  obtain ⟨w1, w2⟩ := h.2.2.2.1.2.1 o o1 o2
  refine ⟨w1, o3, h.2.2.2.1.2.2 o o1 o2, fun e => ?_⟩
  obtain ⟨f, f1, f2, f3, f4⟩ := w2 e
  exact (hE.1.1.fnb f1 f2 f3 f4).1
theorem RGI.puh (hE : ENV D m rg cd T vd W M wd pgs ev) (h : RGI D rg cd T vd W M wd X K i E n ty nr av L dd st) (hno : X.no < 30000) : ∃ (N : Nat) (A : alD), PUH X n nr wd N A := by
  have hok := okQ_stQ (no := X.no) (by omega) n h.vok
  obtain ⟨N, n1, n2, _⟩ := bf_end (hp := X.hp) (no := X.no) (by omega) h.2.2.2.1.1 hok
  refine ⟨N, _, h.2.2.2.1.1, h.vkd, h.vok, fun k o ho => ?_, hno, n1, n2, rfl, hE.2.2.1.2.1⟩
  have hr := met_reach h.2.2.2.1.1 (by omega) h.vok k o ho
  obtain ⟨o1, o2, o3, o4, _⟩ := h.rco hr
  exact ⟨⟨o3, o4⟩, hr, h.2.2.2.1.2.2 o o1 o2⟩
/-- what is reached fits into the pages -/
theorem tdS_list (X : dyD) (n : Nat) : ∀ k, ∃ l : List Nat, l.Nodup ∧ (∀ o, o ∈ l → RCO X n o ∧ o < k) ∧ tdS X n k = suL (fun o => (X.hp o).co.length + (X.hp o).kp.length) l := by
  intro k
  induction k with
  | zero => exact ⟨[], List.nodup_nil, fun o ho => (List.not_mem_nil ho).elim, rfl⟩
  | succ k ih =>
    obtain ⟨l, l1, l2, l3⟩ := ih
    by_cases c : 1 ≤ k ∧ RCO X n k
    · refine ⟨k :: l, List.nodup_cons.mpr ⟨fun h => by have := (l2 k h).2; omega, l1⟩, fun o ho => ?_, ?_⟩
      · rcases List.mem_cons.mp ho with e | e
        · rw [e]; exact ⟨c.2, by omega⟩
        · exact ⟨(l2 o e).1, by have := (l2 o e).2; omega⟩
      · rw [tdS_y c.1 c.2, l3]; show _ = (X.hp k).co.length + (X.hp k).kp.length + suL _ l; omega
    · refine ⟨l, l1, fun o ho => ⟨(l2 o ho).1, by have := (l2 o ho).2; omega⟩, ?_⟩
      rw [← l3]
      show tdS X n k + @ite _ (1 ≤ k ∧ RCO X n k) (Classical.propDecidable _) _ 0 = _
      rw [if_neg c]; rfl
theorem RGI.cap (hE : ENV D m rg cd T vd W M wd pgs ev) (h : RGI D rg cd T vd W M wd X K i E n ty nr av L dd st) (hP : CPs D X n nr wd pgs s pl pg fl σ) (k : Nat) : tdS X n k ≤ 51200 := by
  obtain ⟨l, l1, l2, l3⟩ := tdS_list X n k
  obtain ⟨h1, h2, h3, h4⟩ := hP
  have hg := h.gch hE
  have hle : tdS X n k ≤ suL (fun o => szO (X.hp o)) l := by
    rw [l3]
    refine suL_le l (fun o ho => ?_)
    have := (hg.2.2 o (l2 o ho).1).1.sz
    show _ ≤ szO (X.hp o)
    omega
  have hp := packing (w := fun o => szO (X.hp o)) (pl := pl) (wd := wd) (ex := exR pg 0 nr) l1 (fun o o' ho ho' hne => h3.2 o o' (l2 o ho).1 (l2 o' ho').1 hne) (fun o ho => by
    obtain ⟨g1, _⟩ := h3.1 o (l2 o ho).1
    have hgi := (hg.2.2 o (l2 o ho).1).2.1
    obtain ⟨p, p1, p2, p3⟩ := g1.page (h4.2.2.2 _ hgi).2
    exact ⟨p, (exR_mem _ _).mpr ⟨_, by omega, by omega, p1⟩, p2, p3⟩)
  have hlen : (exR pg 0 nr).length = s.U := by
    rw [exR_len, ← h4.2.2.1]
    exact sumF_congr nr 0 (fun q _ hq => (h1.2.2.1 q (by omega)).2.2.2.2)
  rw [hlen] at hp
  have hU : s.U ≤ 400 := by have := h4.1; have := h4.2.1; have := h1.2.2.2.2.2.2.1; omega
  have := Nat.mul_le_mul hU h1.2.2.2.2.2.2.2.1
  omega
/-- there is room for what is planned -/
theorem RGI.klen (h : RGI D rg cd T vd W M wd X K i E n ty nr av L dd st) (hM : M ≤ 490) (hi : i ≤ 300) (hlu : lu D K ≤ M) : K.length + 20 < 130000 := by
  obtain ⟨_, _, _, _, _, ⟨_, h2, h3, _⟩, h5, h6, h7, _, h9⟩ := h
  have h10 := (KGr.len h9 0 1 h5).1
  have h11 := (xS_le h9 0 1 h5 h7).1
  have : M * nR K ≤ 490 * nR K := Nat.mul_le_mul_right _ hM
  omega
theorem SPI.use : ∀ (K : List (Nat × Nat × Nat)), SPI D W M K → KGr D K 0 1 → (∀ e, e ∈ K → e.1 = 7 → cwt D e.2.1 ≤ W e.2.1) → okF D M K → ∀ c t, KGr D K c t → lu D K ≤ M := by
  intro K
  induction K with
  | nil => intro _ _ _ _ c t _; exact Nat.zero_le _
  | cons x K ih =>
    obtain ⟨w, p, b⟩ := x
    intro h hG hW hF c t h2
    obtain ⟨h3, h4⟩ := h
    have eL : lu D ((w, p, b) :: K) = if w = 8 then 0 else (if w = 7 then cwt D p else 0) + lu D K := rfl
    rw [eL]
    have hW' : ∀ e, e ∈ K → e.1 = 7 → cwt D e.2.1 ≤ W e.2.1 := fun e he => hW e (List.mem_cons_of_mem _ he)
    rcases h2 with ⟨k0, k1⟩ | ⟨k0, k1, k2⟩ | ⟨k0, k1, k2, k3⟩ | ⟨k0, k1, k2, k3, k4⟩
    · have := h3 (.inl k0)
      rw [if_neg (by omega), if_neg (by omega)]
      show 0 + lu D K ≤ M
      have : lu D K + W p ≤ M := this
      omega
    · have := h3 (.inr k0)
      have hc := hW (w, p, b) List.mem_cons_self k0
      rw [if_neg (by omega), if_pos k0]
      have this : lu D K + W p ≤ M := this
      have hc : cwt D p ≤ W p := hc
      omega
    · rw [if_pos k0]; exact Nat.zero_le _
    · rw [if_neg (by omega), if_neg (by omega), Nat.zero_add]
      exact ih h4 (KGr.up _ _ _ k4) hW' hF.2 0 0 k4
end RUNFACTS
