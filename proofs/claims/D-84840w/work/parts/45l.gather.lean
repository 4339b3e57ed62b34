/-! REGIONS, THE MODEL: bits of a function's scopes and parts -/
section GATHER
variable {L : Nat} {xs : Nat → Int32} {σ σ' τ0 : tvS} {D : pgD} {m f : Nat}
def oM (τ : tvS) (q : Nat) : Nat := ix (rd τ 178 q)
def vM (τ : tvS) (v : Nat) : Nat := ix (rd τ 179 v)
def rM (τ : tvS) (f : Nat) : Nat := ix (rd τ 180 f)
/-- types of the parts of a function, in the model's memory -/
def TYm (D : pgD) (f N : Nat) (τ : tvS) : Prop := (∀ p, D.bP f ≤ p → p < D.bP (f + 1) → rd τ 178 p = i32 (oM τ p : Int) ∧ oM τ p < N) ∧ (∀ v, D.tV f ≤ v → v < D.tV (f + 1) → rd τ 179 v = i32 (vM τ v : Int) ∧ vM τ v < N) ∧ (rd τ 180 f = i32 (rM τ f : Int) ∧ rM τ f < N)
/-- scopes of a function: their variable, the one above; the chain of each; those of parts -/
def SCm (D : pgD) (f S0 S1 : Nat) (vs us sc : Nat → Nat) (cl : Nat → List Nat) (τ : tvS) : Prop :=
  (rd τ 202 f = i32 ((S0 + 1 : Nat) : Int) ∧ rd τ 202 (f + 1) = i32 ((S1 + 1 : Nat) : Int) ∧ S0 ≤ S1 ∧ S1 ≤ 3000) ∧ (∀ s, S0 < s → s ≤ S1 → rd τ 149 s = i32 (vs s : Int) ∧ rd τ 150 s = i32 (us s : Int) ∧ D.tV f ≤ vs s ∧ vs s < D.tV (f + 1) ∧ us s < s ∧ (us s = 0 ∨ S0 < us s) ∧ cl s = vs s :: cl (us s)) ∧ cl 0 = [] ∧
  (∀ p, D.bP f ≤ p → p < D.bP (f + 1) → rd τ 160 p = i32 (sc p : Int) ∧ (sc p = 0 ∨ (S0 < sc p ∧ sc p ≤ S1)) ∧ cl (sc p) = D.sl p)
theorem RQ.or {G : tG} {r : Nat → Nat} {h : Nat → Nat → Prop} {A B : Nat → Prop} {y : Nat} (q : RQ G r h (fun b => A b ∨ B b) y) : RQ G r h A y ∨ RQ G r h B y :=
  q (fun y => RQ G r h A y ∨ RQ G r h B y) (fun x y e k => k.imp (fun k => k.cl e) (fun k => k.cl e)) (fun x z k hk hz => k.imp (fun k => k.kid hk hz) (fun k => k.kid hk hz)) (fun x u k hu => k.imp (fun k => k.held hu) (fun k => k.held hu)) (fun b k => k.imp RQ.base RQ.base)
/-- numbers of boxed types that are reached from B -/
def nbR (G : tG) (r : Nat → Nat) (h : Nat → Nat → Prop) (nm : Nat → Nat) (B : Nat → Prop) (j : Nat) : Prop := ∃ t, r t = t ∧ RQ G r h B t ∧ 2 ≤ G.1 t ∧ nm t = j + 1
theorem nbR.or {G : tG} {r : Nat → Nat} {h : Nat → Nat → Prop} {nm : Nat → Nat} {A B : Nat → Prop} {j : Nat} : nbR G r h nm (fun b => A b ∨ B b) j ↔ nbR G r h nm A j ∨ nbR G r h nm B j := by
  constructor
  · rintro ⟨t, a, q, b, c⟩
    rcases q.or with k | k
    · exact .inl ⟨t, a, k, b, c⟩
    · exact .inr ⟨t, a, k, b, c⟩
  · rintro (⟨t, a, q, b, c⟩ | ⟨t, a, q, b, c⟩)
    · exact ⟨t, a, q.mono (fun b k => .inl k), b, c⟩
    · exact ⟨t, a, q.mono (fun b k => .inr k), b, c⟩
theorem nbR.congr {G : tG} {r : Nat → Nat} {h : Nat → Nat → Prop} {nm : Nat → Nat} {A B : Nat → Prop} {j : Nat} (e : ∀ b, A b ↔ B b) : nbR G r h nm A j ↔ nbR G r h nm B j :=
  ⟨fun ⟨t, a, q, b, c⟩ => ⟨t, a, q.mono (fun b k => (e b).mp k), b, c⟩, fun ⟨t, a, q, b, c⟩ => ⟨t, a, q.mono (fun b k => (e b).mpr k), b, c⟩⟩
/-- the model's types, with all that is said of them -/
def MZ (N : Nat) (G : tG) (r : Nat → Nat) (hl : Nat → List Nat) (hv : Nat → Nat) (H S : Nat) (σ : tvS) : Prop := TM N G r σ ∧ HM N r hl hv H σ ∧ MT N S σ
/-- and plainly -/
def MQt (N : Nat) (G : tG) (r : Nat → Nat) (hl : Nat → List Nat) (hv : Nat → Nat) : Prop := N < 100000 ∧ (∀ x, r (r x) = r x) ∧ (∀ x, x < N → r x < N) ∧ (∀ t z, t < N → r t = t → 2 ≤ G.1 t → scs G hl hv t z → z < N) ∧ (∀ t u, hC hl hv (r t) u → 2 ≤ G.1 (r t))
theorem MZ.of {N : Nat} {G : tG} {r : Nat → Nat} {hl : Nat → List Nat} {hv : Nat → Nat} {H S : Nat} {B : Nat → Prop} {DL : List Nat} (h : RMD N G r hl hv H S B DL σ) : MZ N G r hl hv H S σ := ⟨h.1.1.1, h.1.2.1, h.1.1.2.1⟩
/-- one word, and the others as they were -/
def LB2 (A i : Nat) (old : Nat → Int64) (σ : tvS) (B : Nat → Prop) : Prop := LBt A i σ B ∧ ∀ i', i' ≠ i → rl σ A i' = old i'
theorem LB2.bwr (A i : Nat) (old : Nat → Int64) : BWR (LB2 A i old) (wbt A i) [A] := by
  obtain ⟨b1, b2, b3, b4, b5⟩ := LBt.bwr A i
  refine ⟨fun σ B k hk h => ⟨b1 σ B k hk h.1, fun i' hi => ?_⟩, fun σ σ' B e h => ⟨b2 σ σ' B e h.1, fun i' hi => ?_⟩, fun σ B B' e h => ⟨b3 σ B B' e h.1, h.2⟩, b4, b5⟩
  · unfold wbt
    rw [rl_wl, if_neg (fun q => hi q.2)]; exact h.2 i' hi
  · have := h.2 i' hi
    unfold rl at this ⊢
    rw [e]; exact this
/-- one type, with a mark of its own -/
theorem reach_one {N : Nat} {G : tG} {r : Nat → Nat} {hl : Nat → List Nat} {hv nm : Nat → Nat} {H S x A i : Nat} {B0 : Nat → Prop} (hE : REQ L xs (.ref A) (i32 (i : Int)) (wbt A i)) (hq : MQt N G r hl hv) (h : MZ N G r hl hv H S σ) (hS : S + 1 < 2147483648) (hx : x < N) (hnm : ∀ t, RQ G r (hC hl hv) (fun b => b = x) t → t < N → r t = t → 2 ≤ G.1 t → rd σ 184 t = i32 (nm t : Int) ∧ nm t ≤ 60) (hB : LBt A i σ B0) (d : Nat) :
    ∃ (σ' : tvS) (y : Int32), rn L xs (d + 4) 353 0 [.ref 123, .int (i32 (x : Int)), .ref A, .int (i32 (i : Int)), jv, jv, jv, jv] [] (wr σ 123 72 (rd σ 123 72 + 1)) = some (.inl (some (.int y)), σ') ∧ MZ N G r hl hv H (S + 1) σ' ∧ LBt A i σ' (fun j => B0 j ∨ nbR G r (hC hl hv) nm (fun b => b = x) j) ∧ frX [169, 171, 176] [72] [A] σ σ' ∧ ∀ i', i' ≠ i → rl σ' A i' = rl σ A i' := by
  obtain ⟨q1, q2, q3, q4, q5⟩ := hq
  have h0 := RMD.new h.1 h.2.1 h.2.2 hS
  have w0 : frM [] [72] σ (wr σ 123 72 (rd σ 123 72 + 1)) := frM_w rfl
  have e1 : ∀ b, (False ∨ b = x) ↔ b = x := fun b => ⟨fun k => k.elim (fun k => k.elim) id, .inr⟩
  obtain ⟨σ', DL', a1, a2, a3, a4, a5⟩ := reach_call (L := L) (xs := xs) (nm := nm) hE (LB2.bwr A i (rl σ A)) hS q1 q2 q4 h0 hx (fun t ht hlt => by
    rw [w0.rd (j := 184) rfl]
    exact hnm t (ht.mono (fun b k => (e1 b).mp k)) hlt) (B0 := B0) ⟨fun j hj => hB j hj, fun _ _ => rfl⟩ d jv jv jv jv
  obtain ⟨a3, a3'⟩ := a3
  refine ⟨σ', _, a1, MZ.of a2, fun j hj => (a3 j hj).trans (or_congr Iff.rfl ?_), ((w0.X [A]).sub rfl rfl (by show (inL [A] A && true) = true; rw [Bool.and_true]; show (Nat.beq A A || false) = true; rw [Nat.beq_refl]; rfl)).trans (a5.sub rfl rfl (by show (inL [A] A && true) = true; rw [Bool.and_true]; show (Nat.beq A A || false) = true; rw [Nat.beq_refl]; rfl)), a3'⟩
  constructor
  · rintro ⟨t, t1, _, t3⟩
    obtain ⟨k1, k2, k3⟩ := (a2.iff q5 q2 q3 q4 t).mp t1
    exact ⟨t, k1, k2.mono (fun b k => (e1 b).mp k), k3, t3⟩
  · rintro ⟨t, k1, k2, k3, t3⟩
    exact ⟨t, (a2.iff q5 q2 q3 q4 t).mpr ⟨k1, k2.mono (fun b k => (e1 b).mpr k), k3⟩, (fun k => by cases k), t3⟩
/-- frames of it all -/
def frG4 (τ0 σ : tvS) : Prop := frX [169, 171, 176] [72, 94] [187, 188, 189] τ0 σ
theorem bxs_step {b0 : Nat → Prop} {nm : Nat → Nat} {G : tG} {DL DL' : List Nat} {j : Nat} (a4 : ∀ t, t ∈ bxs G DL → t ∈ bxs G DL') : ((b0 j ∨ ∃ t, t ∈ bxs G DL ∧ nm t = j + 1) ∨ ∃ t, t ∈ bxs G DL' ∧ t ∉ bxs G DL ∧ nm t = j + 1) ↔ (b0 j ∨ ∃ t, t ∈ bxs G DL' ∧ nm t = j + 1) := by
  constructor
  · rintro ((k | ⟨t, t1, t2⟩) | ⟨t, t1, _, t2⟩)
    · exact .inl k
    · exact .inr ⟨t, a4 t t1, t2⟩
    · exact .inr ⟨t, t1, t2⟩
  · rintro (k | ⟨t, t1, t2⟩)
    · exact .inl (.inl k)
    · by_cases q : t ∈ bxs G DL
      · exact .inl (.inr ⟨t, q, t2⟩)
      · exact .inr ⟨t, t1, q, t2⟩
theorem all_loop {b0 : Nat → Prop} {N : Nat} {G : tG} {r : Nat → Nat} {hl : Nat → List Nat} {hv nm : Nat → Nat} {H S : Nat} (hq : MQt N G r hl hv) (hS : S < 2147483648) (hF : PGF D m) (hf : f ≤ D.fc) {σ0 : tvS} (hR : PGR D σ0 τ0) (hty : TYm D f N τ0) (hnm : ∀ t, t < N → (RQ G r (hC hl hv) (fun b => (∃ v, D.tV f ≤ v ∧ v < D.tV f + D.bk f ∧ b = vM τ0 v) ∨ b = rM τ0 f) t) → r t = t → 2 ≤ G.1 t → rd τ0 184 t = i32 (nm t : Int) ∧ nm t ≤ 60) (d : Nat) : ∀ (j k : Nat) (DL : List Nat) (σ : tvS) (v3 v4 v5 v6 : Value), k + j = D.bk f → RMD N G r hl hv H S (fun b => ∃ v, D.tV f ≤ v ∧ v < D.tV f + k ∧ b = vM τ0 v) DL σ → frG4 τ0 σ → LBt 189 0 σ (fun j => b0 j ∨ ∃ t, t ∈ bxs G DL ∧ nm t = j + 1) →
    ∃ (σ' : tvS) (DL' : List Nat) (w2 w3 w4 w5 w6 : Value), rn L xs (d + 5) 352 35 [.ref 123, .int (i32 (f : Int)), .int (i32 (k : Int)), v3, v4, v5, v6] [] σ = rn L xs (d + 5) 352 74 [.ref 123, .int (i32 (f : Int)), w2, w3, w4, w5, w6] [] σ' ∧ RMD N G r hl hv H S (fun b => ∃ v, D.tV f ≤ v ∧ v < D.tV f + D.bk f ∧ b = vM τ0 v) DL' σ' ∧ frG4 τ0 σ' ∧ LBt 189 0 σ' (fun j => b0 j ∨ ∃ t, t ∈ bxs G DL' ∧ nm t = j + 1) := by
  have hb4 := hF.1
  have hbl := (hF.le (D.fc + 1 - (f + 1)) (f + 1) (by omega))
  have hPf := hF.2.2 f hf
  have hff := hR.1 f hf
  have hk5 := hPf.1.2.2.2
  obtain ⟨q1, q2, q3, q4, q5⟩ := hq
  intro j
  induction j with
  | zero =>
    intro k DL σ v3 v4 v5 v6 e hD hfm hB
    have e : k = D.bk f := by omega
    subst e
    refine ⟨σ, DL, .int (i32 (D.bk f : Int)), v3, v4, v5, v6, ?_, hD, hfm, hB⟩
    rw [e352_35, c_in (by omega) (by omega) (by omega), i32_ixn (by omega), hfm.rd (j := 140) rfl, hff.2.1.1, c2_ge (by omega) (by omega) (by omega) (by omega), c_t (by omega)]
  | succ j ih =>
    intro k DL σ v3 v4 v5 v6 e hD hfm hB
    have htv := hPf.1.2.1
    obtain ⟨g1, g2⟩ := hty.2.1 (D.tV f + k) (by omega) (by omega)
    have eB : ∀ b, ((∃ v, D.tV f ≤ v ∧ v < D.tV f + k ∧ b = vM τ0 v) ∨ b = vM τ0 (D.tV f + k)) ↔ ∃ v, D.tV f ≤ v ∧ v < D.tV f + (k + 1) ∧ b = vM τ0 v := fun b => by
      constructor
      · rintro (⟨v, v1, v2, v3⟩ | h)
        · exact ⟨v, v1, by omega, v3⟩
        · exact ⟨D.tV f + k, by omega, by omega, h⟩
      · rintro ⟨v, v1, v2, v3⟩
        by_cases ev : v = D.tV f + k
        · rw [ev] at v3; exact .inr v3
        · exact .inl ⟨v, v1, by omega, v3⟩
    obtain ⟨s1, DL1, a1, a2, a3, a4, a5⟩ := reach_call (L := L) (xs := xs) (nm := nm) (REQ.r189 (L := L) (xs := xs) (i := 0) (by omega)) (LBt.bwr 189 0) hS q1 q2 q4 hD g2 (fun t ht hlt => by
      rw [hfm.rd (j := 184) rfl]
      refine hnm t hlt (ht.mono (fun b kb => .inl ?_))
      obtain ⟨v, v1, v2, v3⟩ := (eB b).mp kb
      exact ⟨v, v1, by omega, v3⟩) hB d jv jv jv jv
    have hfm1 : frG4 τ0 s1 := hfm.trans (a5.sub rfl rfl rfl)
    have hD1 : RMD N G r hl hv H S (fun b => ∃ v, D.tV f ≤ v ∧ v < D.tV f + (k + 1) ∧ b = vM τ0 v) DL1 s1 := ⟨a2.1.rx (fun y ky => ky.mono (fun b kb => (eB b).mp kb)), fun b kb => a2.2 b ((eB b).mpr kb)⟩
    obtain ⟨σ', DL', w2, w3, w4, w5, w6, y1, y2, y3, y4⟩ := ih (k + 1) DL1 s1 (.int (i32 (((bxs G DL1).length - (bxs G DL).length : Nat) : Int))) (dj v4) (dj v5) (dj v6) (by omega) hD1 hfm1 (fun j hj => (a3 j hj).trans (bxs_step a4))
    refine ⟨σ', DL', w2, w3, w4, w5, w6, ?_, y2, y3, y4⟩
    have a1' : rn L xs (d + 4) 353 0 [.ref 123, .int (i32 (vM τ0 (D.tV f + k) : Int)), .ref 189, .int 0, jv, jv, jv, jv] [] σ = some (.inl (some (.int (i32 (((bxs G DL1).length - (bxs G DL).length : Nat) : Int)))), s1) := a1
    rw [e352_35 (d + 4), c_in (by omega) (by omega) (by omega), i32_ixn (by omega), hfm.rd (j := 140) rfl, hff.2.1.1, c2_ge (by omega) (by omega) (by omega) (by omega), c_f (by omega), c_in (by omega) (by omega) (by omega), hfm.rd (j := 141) rfl, hff.2.1.2.1, i32_add, show (D.tV f : Int) + (k : Int) = ((D.tV f + k : Nat) : Int) from by omega, c_in (by omega) (by omega) (by omega), i32_ixn (by omega), hfm.rd (j := 179) rfl, g1, bI_ok a1', i32_up]
    exact y1
end GATHER
