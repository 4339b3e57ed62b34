/-! BETWEEN FUNCTIONS: both sides' types when a function is done -/
section NEXTB
variable {σ τ σ' τ' τ1 σ2 τ2 : tvS} {K1 K2 Bc Bm f : Nat} {Rc Rm : Nat → Nat → Prop} {pd : List (Nat × List Nat × (Nat → Nat))} {n u a rc rl : Nat} {T T0 T1 T' T2 : tyJ} {D : pgD} {G : sgD} {m : Nat}
/-- what is below stays held as it was, the component's -/
theorem REC.hc {n0 fst kc0 rf cf0 kf0 Bm' : Nat} {pe0 : Nat → Nat} {bl R : List Nat} {ow : Nat → Int} {pe pt by' : Nat → Nat} {kc cf kg : Nat} {kf gf gk : Nat → Nat} (hI : TYI K1 K2 Bc Bm f Rc Rm D G rl (D.bP (f + 1)) (D.bP (f + 1)) n u a pd rc T1 σ τ1) (h : REC D G K1 K2 f n0 fst kc0 rf cf0 kf0 pe0 Bm' T1 T' T2 bl R ow pe pt by' kc cf kg kf gf gk σ τ1 σ' τ' σ2 τ2) {t : Nat} (ht : t < Bc) (hr : yC T1 t = t) (v : Nat) : hQ (yC T1) (yH T') t v ↔ hQ (yC T1) (yH T1) t v := by
  obtain ⟨hO, ⟨hpt, har, hLF, _⟩, _⟩ := h
  obtain ⟨hT, _, _, _, hS⟩ := hI
  have hc0 := hT.c0
  obtain ⟨f1, f2, f3, f4, _⟩ := hT.2.1
  constructor
  · intro k
    refine LFP.old ((hLF t v hr).mpr k) (fun j j1 j2 e => ?_)
    obtain ⟨p1, p2, _⟩ := hpt j j1 j2
    have hk := har j j1 j2
    have hcu : cuN Bc (oT σ (pt j)) := ((hS.1 (pt j) p1 p2).nat hT).2.2.2.2.2.1
    have e : t = T1.1.2.2.1 (oT σ (pt j)) := e
    have k0 : (yG T1).1 0 = 1 := (hc0.2.2.2.2.2.1 0).mpr rfl
    have c0 : yC T1 0 = 0 := (hc0.2.2.2.2.2.1 _).mp (by rw [hc0.2.2.1.2.1 0 (by rw [k0]; decide)]; exact k0)
    rcases hcu with q | q
    · have := f4 _ q
      rcases this with q | q
      · omega
      · rw [show yC T1 (oT σ (pt j)) = 0 from q, k0] at hk; omega
    · rw [q, c0, k0] at hk; omega
  · rintro ⟨w, k1, k2⟩
    exact ⟨w, hO.2.2.2.2.1 t w hr k1, k2⟩
theorem REC.hm {n0 fst kc0 rf cf0 kf0 Bm' : Nat} {pe0 : Nat → Nat} {bl R : List Nat} {ow : Nat → Int} {pe pt by' : Nat → Nat} {kc cf kg : Nat} {kf gf gk : Nat → Nat} (hI : TYI K1 K2 Bc Bm f Rc Rm D G rl (D.bP (f + 1)) (D.bP (f + 1)) n u a pd rc T1 σ τ1) (h : REC D G K1 K2 f n0 fst kc0 rf cf0 kf0 pe0 Bm' T1 T' T2 bl R ow pe pt by' kc cf kg kf gf gk σ τ1 σ' τ' σ2 τ2) {t : Nat} (ht : t < Bm) (hr : T1.2.1.2.2.1 t = t) (v : Nat) : hQ T1.2.1.2.2.1 T'.2.1.2.2.2.1 t v ↔ hQ T1.2.1.2.2.1 T1.2.1.2.2.2.1 t v := by
  obtain ⟨hO, ⟨hpt, _, _, har, hLF⟩, _⟩ := h
  obtain ⟨hT, _, _, _, hS⟩ := hI
  obtain ⟨f1, f2, f3, f4, _⟩ := hT.2.2.1
  obtain ⟨gM, iM⟩ : gP T1.2.1.2.1 T1.2.1.2.2.1 ∧ ∀ x, T1.2.1.2.1.1 x = 1 ↔ x = 0 := by
    obtain ⟨hl, hv, ⟨h1, _⟩, h6, _⟩ := hT.1.2.1
    exact ⟨h6, h1.2.2.2.2.2.2⟩
  constructor
  · intro k
    refine LFP.old ((hLF t v hr).mpr k) (fun j j1 j2 e => ?_)
    obtain ⟨p1, p2, _⟩ := hpt j j1 j2
    have hk := har j j1 j2
    have hcu : cuN Bm (oM τ1 (pt j)) := ((hS.1 (pt j) p1 p2).nat hT).2.2.2.2.2.2
    have e : t = T1.2.1.2.2.1 (oM τ1 (pt j)) := e
    have k0 : T1.2.1.2.1.1 0 = 1 := (iM 0).mpr rfl
    have c0 : T1.2.1.2.2.1 0 = 0 := (iM _).mp (by rw [gM.2.1 0 (by rw [k0]; decide)]; exact k0)
    rcases hcu with q | q
    · have := f4 _ q
      rcases this with q | q
      · omega
      · rw [q, k0] at hk; omega
    · rw [q, c0, k0] at hk; omega
  · rintro ⟨w, k1, k2⟩
    exact ⟨w, hO.2.2.2.2.2.1 t w hr k1, k2⟩
/-- what stays, over the regions -/
theorem REC.ex {n0 fst kc0 rf cf0 kf0 Bm' : Nat} {pe0 : Nat → Nat} {bl R : List Nat} {ow : Nat → Int} {pe pt by' : Nat → Nat} {kc cf kg : Nat} {kf gf gk : Nat → Nat} (hI : TYI K1 K2 Bc Bm f Rc Rm D G rl (D.bP (f + 1)) (D.bP (f + 1)) n u a pd rc T1 σ τ1) (h : REC D G K1 K2 f n0 fst kc0 rf cf0 kf0 pe0 Bm' T1 T' T2 bl R ow pe pt by' kc cf kg kf gf gk σ τ1 σ' τ' σ2 τ2) : exT Bc Bm T1 T2 := by
  have hc : ∀ t, t < Bc → yC T1 t = t → ∀ v, (hQ (yC T1) (yH T') t v ↔ hQ (yC T1) (yH T1) t v) := fun t h1 h2 => h.hc hI h1 h2
  obtain ⟨_, _, _, ⟨e1, e2, e3, e4⟩, ⟨m1, m2, m3, m4⟩, e5, _⟩ := h
  have e2 : T2.1.2.1 = T1.1.2.1 := e2
  have e3 : T2.1.2.2.1 = T1.1.2.2.1 := e3
  have e4 : T2.1.2.2.2.1 = T'.1.2.2.2.1 := e4
  refine ⟨fun x y q => by rw [e5]; exact q, fun x _ => by rw [e2, e3], by omega, by omega, fun x _ => by rw [e3], fun x _ => by rw [m3], fun x _ => by rw [e2], fun x hx => ⟨⟨by rw [e2], by rw [e2]⟩, fun hr v => ?_⟩⟩
  rw [e3, e4]
  exact hc x hx hr v
/-- the types of both when it is done with -/
theorem REC.tj {n0 fst kc0 rf cf0 kf0 Bm' n' u' a' r' : Nat} {pe0 : Nat → Nat} {bl R : List Nat} {ow : Nat → Int} {pe pt by' : Nat → Nat} {kc cf kg : Nat} {kf gf gk : Nat → Nat} (hF : PGF D m) (hf : f ≤ D.fc) (hI : TYI K1 K2 Bc Bm f Rc Rm D G rl (D.bP (f + 1)) (D.bP (f + 1)) n u a pd rc T1 σ τ1) (hd : ∀ q, D.bP f ≤ q → q < D.bP (f + 1) → D.K q = 3 → D.vl q < f → ∃ n1 : Nat, rd τ1 181 q = i32 (n1 : Int) ∧ n1 < 60000) (h : REC D G K1 K2 f n0 fst kc0 rf cf0 kf0 pe0 Bm' T1 T' T2 bl R ow pe pt by' kc cf kg kf gf gk σ τ1 σ' τ' σ2 τ2) (hB : BDG n' u' a' r' T2) :
    TJ K1 K2 T2.1.1 T2.2.1.1 (f + 1) (fun g => if g = f then RSg (yG T2) (yC T2) (yH T2) (SGb D f (vT σ) (rT σ f)) else Rc g) (fun g => if g = f then RSg T2.2.1.2.1 T2.2.1.2.2.1 T2.2.1.2.2.2.1 (SGb D f (vM τ1) (rM τ1 f)) else Rm g) [] n' u' a' r' T2 σ2 τ2 := by
  have hc : ∀ t, t < Bc → yC T1 t = t → ∀ v, (hQ (yC T1) (yH T') t v ↔ hQ (yC T1) (yH T1) t v) := fun t h1 h2 => h.hc hI h1 h2
  have hm : ∀ t, t < Bm → T1.2.1.2.2.1 t = t → ∀ v, (hQ T1.2.1.2.2.1 T'.2.1.2.2.2.1 t v ↔ hQ T1.2.1.2.2.1 T1.2.1.2.2.2.1 t v) := fun t h1 h2 => h.hm hI h1 h2
  have hT := hI.1
  have hPf := hF.2.2 f hf
  obtain ⟨r1, r2, _, _, r5, _⟩ := hI.reg hF hf hd
  obtain ⟨hO, _, hJ0, ⟨e1, e2, e3, e4⟩, ⟨m1, m2, m3, m4⟩, e5, hEc, ⟨nb, hEm⟩, ⟨⟨A, U, Hh, hA, hU, hH, hMC, hMM, _⟩, _⟩⟩ := h
  obtain ⟨_, _, _, _, _, _, _, _, _, _, _, frc, _, _, _, _, _, _, frx⟩ := hO
  obtain ⟨_, _, _, _, _, _, _, _, _, ftl, _⟩ := hEc
  have ftm := hEm.2.2.2.2.2.2.2.2.2.2
  have pc := hJ0.plc
  have pm := hJ0.plm
  have ev : vT σ2 = vT σ := by funext q; unfold vT; rw [ftl.1 67 rfl, frc.1 67 rfl]
  have er : rT σ2 f = rT σ f := by unfold rT; rw [ftl.1 68 rfl, frc.1 68 rfl]
  have evm : vM τ2 = vM τ1 := by funext q; unfold vM; rw [ftm.rd (j := 179) rfl, frx.rd (j := 179) rfl]
  have erm : rM τ2 f = rM τ1 f := by unfold rM; rw [ftm.rd (j := 180) rfl, frx.rd (j := 180) rfl]
  rw [ev, er] at hMC
  rw [evm, erm] at hMM
  have hv1 : ∀ v, D.tV f ≤ v → v < D.tV (f + 1) → _ := fun v h1 h2 => (hI.2.2.2.2.2.1 v (hPf.tv h1 h2)).nat hT
  have hlt2 := hPf.1.2.1
  have bc : ∀ b, SGb D f (vT σ) (rT σ f) b → b < T2.1.1 := fun b hb => by
    rw [e1]
    rcases hb with q | ⟨k, k1, q⟩
    · rw [q]; exact r1.2.2.2
    · rw [q]; exact (hv1 _ (by omega) (by omega)).2.1
  have bm : ∀ b, SGb D f (vM τ1) (rM τ1 f) b → b < T2.2.1.1 := fun b hb => by
    rw [m1]
    rcases hb with q | ⟨k, k1, q⟩
    · rw [q]; exact r2.2.2.2
    · rw [q]; exact (r2.2.1 _ (by omega) (by omega)).2
  refine ⟨hJ0, ?_, ?_, ⟨fun e he => (by cases he), List.Pairwise.nil⟩, hB⟩
  · have fz := hMC.frz pc bc hA hU hH
    have f1 : FB1 Bc T2.1.1 (yG T2) (yC T2) (yH T1) f Rc := by rw [e1, e2, e3]; exact hT.2.1
    refine f1.next pc (fun g hg t ht v => ?_) fz
    obtain ⟨g1, g2, _⟩ := (hT.2.1.2.2.2.2.2.1 g hg).1 t ht
    show hQ (yC T2) (yH T2) t v ↔ hQ (yC T2) (yH T1) t v
    rw [e3, show yH T2 = yH T' from e4]
    exact hc t g1 g2 v
  · have fz := hMM.frz pm bm hA hU hH
    have f1 : FB1 Bm T2.2.1.1 T2.2.1.2.1 T2.2.1.2.2.1 T1.2.1.2.2.2.1 f Rm := by rw [m1, m2, m3]; exact hT.2.2.1
    refine f1.next pm (fun g hg t ht v => ?_) fz
    obtain ⟨g1, g2, _⟩ := (hT.2.2.1.2.2.2.2.2.1 g hg).1 t ht
    rw [m3, m4]
    exact hm t g1 g2 v
end NEXTB
