/-! REGIONS, THE MODEL: one call of reach -/
section REACHCALL
variable {L : Nat} {xs : Nat → Int32} {σ σ' : tvS}
/-- all that B reaches is marked: DL -/
def RMD (N : Nat) (G : tG) (r : Nat → Nat) (hl : Nat → List Nat) (hv : Nat → Nat) (H S : Nat) (B : Nat → Prop) (DL : List Nat) (σ : tvS) : Prop := RMI N G r hl hv H S (RQ G r (hC hl hv) B) DL [] σ ∧ ∀ b, B b → r b ∈ DL
theorem RMD.iff {N : Nat} {G : tG} {r : Nat → Nat} {hl : Nat → List Nat} {hv : Nat → Nat} {H S : Nat} {B : Nat → Prop} {DL : List Nat} (h : RMD N G r hl hv H S B DL σ) (hk : ∀ t u, hC hl hv (r t) u → 2 ≤ G.1 (r t)) (hI : ∀ x, r (r x) = r x) (hlt : ∀ x, x < N → r x < N) (hz : ∀ t z, t < N → r t = t → 2 ≤ G.1 t → scs G hl hv t z → z < N) (t : Nat) : t ∈ bxs G DL ↔ r t = t ∧ RQ G r (hC hl hv) B t ∧ 2 ≤ G.1 t := by
  obtain ⟨⟨h1, h2, h3, h4, h5, h6⟩, h7⟩ := h
  unfold bxs
  rw [List.mem_filter, decide_eq_true_eq]
  constructor
  · rintro ⟨a, b⟩
    have := h5 t (.inl a)
    exact ⟨this.2.1, this.2.2, b⟩
  · rintro ⟨a, q, b⟩
    refine ⟨?_, b⟩
    have key := q (fun y => r y ∈ DL) (fun x y e k => by rw [← e]; exact k) (fun x z k k2 hzz => by
      have hx := h5 _ (.inl k)
      have hs : scs G hl hv (r x) z := .inl hzz
      have hzN := hz _ z hx.1 hx.2.1 k2 hs
      exact ((h4 (r z) (hlt z hzN)).mp (h6 _ k k2 z hs)).elim id (fun k => by cases k)) (fun x u k hu => by
      have hx := h5 _ (.inl k)
      have k2 := hk x u hu
      have hs : scs G hl hv (r x) u := .inr hu
      have hzN := hz _ u hx.1 hx.2.1 k2 hs
      exact ((h4 (r u) (hlt u hzN)).mp (h6 _ k k2 u hs)).elim id (fun k => by cases k)) h7
    have key : r t ∈ DL := key
    rw [a] at key; exact key
theorem RMI.rx {N : Nat} {G : tG} {r : Nat → Nat} {hl : Nat → List Nat} {hv : Nat → Nat} {H S : Nat} {RX RX' : Nat → Prop} {DL W : List Nat} (h : RMI N G r hl hv H S RX DL W σ) (hx : ∀ y, RX y → RX' y) : RMI N G r hl hv H S RX' DL W σ := by
  obtain ⟨h1, h2, h3, h4, h5, h6⟩ := h
  exact ⟨h1, h2, h3, h4, fun y hy => ⟨(h5 y hy).1, (h5 y hy).2.1, hx y (h5 y hy).2.2⟩, h6⟩
/-- the equations of one kind of reach, by what it tells -/
def REQ (L : Nat) (xs : Nat → Int32) (Av : Value) (x3 : Int32) (wb : tvS → Nat → tvS) : Prop :=
  (∀ (d : Nat) (σ : tvS) (x1 : Int32) (v4 v5 v6 v7 : Value), rn L xs (d + 1) 353 0 [.ref 123, .int x1, Av, .int x3, v4, v5, v6, v7] [] σ = bI (rn L xs d 343 0 [.ref 123, .int x1, .int 0, jv] [] σ) (fun a2 s1 => rn L xs (d + 1) 353 11 [.ref 123, .int x1, Av, .int x3, .int a2, .int 0, (dj v6), (dj v7)] [] s1) X0) ∧
  (∀ (d : Nat) (σ : tvS) (v1 : Value) (x4 x5 : Int32) (v6 v7 : Value), rn L xs (d + 1) 353 11 [.ref 123, v1, Av, .int x3, .int x4, .int x5, v6, v7] [] σ = cond (pv_c1 .le x4) (rn L xs (d + 1) 353 97 [.ref 123, v1, Av, .int x3, .int x4, .int x5, v6, v7] [] σ) (cond (pv_in (x4 + Int32.ofInt (-1)) 100000) (cond (pv_in (rd σ 176 (ix (x4 + Int32.ofInt (-1)))) 100000) (cond (pv_c2 .ge (rd σ 166 (ix (rd σ 176 (ix (x4 + Int32.ofInt (-1)))))) 2) (rn L xs (d + 1) 353 42 [.ref 123, v1, Av, .int x3, .int (x4 + Int32.ofInt (-1)), .int x5, .int (rd σ 176 (ix (x4 + Int32.ofInt (-1)))), v7] [] σ) (rn L xs (d + 1) 353 11 [.ref 123, v1, Av, .int x3, .int (x4 + Int32.ofInt (-1)), .int x5, .int (rd σ 176 (ix (x4 + Int32.ofInt (-1)))), v7] [] σ)) none) none)) ∧
  (∀ (d : Nat) (σ : tvS) (v1 : Value) (x4 x5 : Int32) (t : Nat) (v7 : Value), t < 100000 → rd σ 184 t = 0 → ∃ w7, rn L xs (d + 1) 353 42 [.ref 123, v1, Av, .int x3, .int x4, .int x5, .int (i32 (t : Int)), v7] [] σ = rn L xs (d + 1) 353 84 [.ref 123, v1, Av, .int x3, .int x4, .int (x5 + 1), .int (i32 (t : Int)), w7] [] σ) ∧
  (∀ (d : Nat) (σ : tvS) (v1 : Value) (x4 x5 : Int32) (t k : Nat) (v7 : Value), t < 100000 → k < 60 → rd σ 184 t = i32 ((k + 1 : Nat) : Int) → ∃ w7, rn L xs (d + 1) 353 42 [.ref 123, v1, Av, .int x3, .int x4, .int x5, .int (i32 (t : Int)), v7] [] σ = rn L xs (d + 1) 353 84 [.ref 123, v1, Av, .int x3, .int x4, .int (x5 + 1), .int (i32 (t : Int)), w7] [] (wb σ k)) ∧
  (∀ (d : Nat) (σ : tvS) (v1 : Value) (x4 x5 x6 : Int32) (v7 : Value), rn L xs (d + 1) 353 84 [.ref 123, v1, Av, .int x3, .int x4, .int x5, .int x6, v7] [] σ = bI (rn L xs d 354 0 [.ref 123, .int x6, .int x4, jv, jv] [] σ) (fun a2 s1 => rn L xs (d + 1) 353 11 [.ref 123, (dj v1), Av, .int x3, .int a2, .int x5, .int x6, (dj v7)] [] s1) X0) ∧
  (∀ (d : Nat) (σ : tvS) (v1 : Value) (x4 x5 : Int32) (v6 v7 : Value), rn L xs (d + 1) 353 97 [.ref 123, v1, Av, .int x3, .int x4, .int x5, v6, v7] [] σ = some (.inl (some (.int x5)), σ))
theorem reach_call {N : Nat} {G : tG} {r : Nat → Nat} {hl : Nat → List Nat} {hv nm : Nat → Nat} {H S x : Nat} {B B0 : Nat → Prop} {DL : List Nat} {LB : tvS → (Nat → Prop) → Prop} {wb : tvS → Nat → tvS} {LS : List Nat} {Av : Value} {x3 : Int32} (hE : REQ L xs Av x3 wb) (hW : BWR LB wb LS) (hS : S < 2147483648) (hN : N < 100000) (hI : ∀ x, r (r x) = r x) (hz : ∀ t z, t < N → r t = t → 2 ≤ G.1 t → scs G hl hv t z → z < N) (h : RMD N G r hl hv H S B DL σ) (hx : x < N) (hnm : ∀ t, RQ G r (hC hl hv) (fun b => B b ∨ b = x) t → t < N → r t = t → 2 ≤ G.1 t → rd σ 184 t = i32 (nm t : Int) ∧ nm t ≤ 60) (hB : LB σ B0) (d : Nat) (v4 v5 v6 v7 : Value) :
    ∃ (σ' : tvS) (DL' : List Nat), rn L xs (d + 4) 353 0 [.ref 123, .int (i32 (x : Int)), Av, .int x3, v4, v5, v6, v7] [] σ = some (.inl (some (.int (i32 (((bxs G DL').length - (bxs G DL).length : Nat) : Int)))), σ') ∧ RMD N G r hl hv H S (fun b => B b ∨ b = x) DL' σ' ∧ LB σ' (fun j => B0 j ∨ ∃ t, t ∈ bxs G DL' ∧ t ∉ bxs G DL ∧ nm t = j + 1) ∧ (∀ t, t ∈ bxs G DL → t ∈ bxs G DL') ∧ frX [169, 171, 176] [] LS σ σ' := by
  obtain ⟨e0, e11, e42n, e42b, e84, e97⟩ := hE
  obtain ⟨h1, h2⟩ := h
  have h1' := h1.rx (RX' := RQ G r (hC hl hv) (fun b => B b ∨ b = x)) (fun y k => k.mono (fun b k => .inl k))
  obtain ⟨r1, r2, r3, r4, r5, r6⟩ := id h1'
  obtain ⟨s1, W, a1, a2, a3, a4, a5⟩ := meets_J (L := L) (xs := xs) r1 hS (by show (0 : Nat) < _; omega) hx (d + 1) jv
  have a1' : rn L xs (d + 3) 343 0 [.ref 123, .int (i32 (x : Int)), .int 0, jv] [] σ = some (.inl (some (.int (i32 (W.length : Int)))), s1) := a1
  have hrx := r1.1.rlt hx
  have qx : RQ G r (hC hl hv) (fun b => B b ∨ b = x) (r x) := (RQ.base (.inr rfl)).cl (hI x).symm
  have hR1 : RMI N G r hl hv H S (RQ G r (hC hl hv) (fun b => B b ∨ b = x)) DL W s1 := by
    have hDL : ∀ y, y ∈ DL → mkd S σ y := fun y hy => (r4 y (r5 y (.inl hy)).1).mpr (.inl hy)
    have hnd : DL.Nodup := by
      have := r3
      rw [List.append_nil] at this; exact this
    refine ⟨a2, r2.fr a3 rfl ⟨rfl, rfl, rfl⟩, ?_, fun y hy => ?_, fun y hy => ?_, fun t ht hk z hs => (a5 _).mpr (.inl (r6 t ht hk z hs))⟩
    · rcases a4 with ⟨e, e2⟩ | ⟨e, e2⟩
      · rw [e, List.append_nil]; exact hnd
      · rw [e]
        exact List.nodup_append.mpr ⟨hnd, List.nodup_cons.mpr ⟨fun k => (by cases k), List.nodup_nil⟩, fun a ha b hb q => by
          rw [List.mem_singleton.mp hb] at q
          rw [q] at ha
          exact e2 (hDL _ ha)⟩
    · rw [a5 y, r4 y hy]
      rcases a4 with ⟨e, e2⟩ | ⟨e, e2⟩
      · rw [e]
        constructor
        · rintro ((k | k) | k)
          · exact .inl k
          · cases k
          · rw [k]; exact ((r4 _ hrx).mp e2)
        · rintro (k | k)
          · exact .inl (.inl k)
          · cases k
      · rw [e]
        constructor
        · rintro ((k | k) | k)
          · exact .inl k
          · cases k
          · rw [k]; exact .inr List.mem_cons_self
        · rintro (k | k)
          · exact .inl (.inl k)
          · exact .inr (List.mem_singleton.mp k)
    · rcases hy with k | k
      · exact r5 y (.inl k)
      · rcases a4 with ⟨e, e2⟩ | ⟨e, e2⟩
        · rw [e] at k; cases k
        · rw [e] at k
          rw [List.mem_singleton.mp k]; exact ⟨hrx, hI x, qx⟩
  have hB1 : LB s1 B0 := hW.2.1 σ s1 B0 (by rw [a3.1.2]) hB
  obtain ⟨σ', DL', y1, y2, y3, y4, y5⟩ := reach_gen (L := L) (xs := xs) (nm := nm) (LB := LB) (wb := wb) (LS := LS) hS hN hI (fun t z q _ e k s => by
    rcases s with s | ⟨i, i1, i2⟩
    · exact (q.kid (by rw [e]; exact k) (by rw [e]; exact s)).cl (hI z).symm
    · exact (q.held (by rw [e]; exact ⟨i, i1, i2⟩)).cl (hI z).symm) hz hW Av x3 e11 e42n e42b e84 e97 d N DL W (bxs G DL).length s1 B0 (.int (i32 (x : Int))) (dj v6) (dj v7) (by omega) hR1 (fun t ht hlt => by rw [a3.rd (j := 184) rfl]; exact hnm t ht hlt) hB1 (Nat.le_refl _)
  have hxD : r x ∈ DL' := by
    rcases a4 with ⟨e, e2⟩ | ⟨e, e2⟩
    · rcases (r4 _ hrx).mp e2 with k | k
      · exact y3 _ (.inl k)
      · cases k
    · exact y3 _ (.inr (by rw [e]; exact List.mem_cons_self))
  refine ⟨σ', DL', ?_, ⟨y2, fun b hb => ?_⟩, y4, fun t ht => ?_, (a3.X LS).trans y5⟩
  · rw [e0 (d + 3), bI_ok a1']
    rw [Nat.sub_self] at y1
    exact y1
  · rcases hb with hb | hb
    · exact y3 _ (.inl (h2 b hb))
    · rw [hb]; exact hxD
  · unfold bxs at ht ⊢
    rw [List.mem_filter] at ht ⊢
    exact ⟨y3 t (.inl ht.1), ht.2⟩
/-- a new round of marks -/
theorem RMD.new {N : Nat} {G : tG} {r : Nat → Nat} {hl : Nat → List Nat} {hv : Nat → Nat} {H S : Nat} (hT : TM N G r σ) (hH : HM N r hl hv H σ) (hM : MT N S σ) (hS : S + 1 < 2147483648) : RMD N G r hl hv H (S + 1) (fun _ => False) [] (wr σ 123 72 (rd σ 123 72 + 1)) := by
  have w : frM [] [72] σ (wr σ 123 72 (rd σ 123 72 + 1)) := frM_w rfl
  have e72 : rd σ 123 72 + 1 = i32 ((S + 1 : Nat) : Int) := by rw [hM.1, i32_up]
  refine ⟨⟨⟨hT.fr w rfl ⟨rfl, rfl, rfl, rfl⟩, ⟨by rw [wr_self, e72], fun x hx => ?_⟩, trivial, List.nodup_nil, fun y hy => (by cases hy)⟩, hH.fr w rfl ⟨rfl, rfl, rfl⟩, List.nodup_nil, fun y hy => ⟨fun k => ?_, fun k => k.elim (fun k => by cases k) (fun k => by cases k)⟩, fun y hy => hy.elim (fun k => by cases k) (fun k => by cases k), fun t ht => (by cases ht)⟩, fun b hb => hb.elim⟩
  · obtain ⟨⟨s, s1, s2⟩, ⟨s', s1', s2'⟩⟩ := hM.2 x hx
    exact ⟨⟨s, by omega, by rw [w.rd (j := 171) rfl]; exact s2⟩, ⟨s', by omega, by rw [w.rd (j := 172) rfl]; exact s2'⟩⟩
  · exfalso
    unfold mkd at k
    rw [w.rd (j := 171) rfl] at k
    obtain ⟨⟨s, s1, s2⟩, _⟩ := hM.2 y hy
    rw [s2] at k
    have := (i32_inj (by omega) (by omega) (by omega) (by omega)).mp k
    omega
theorem dv0_all : ((List.range 60).all fun k => decide ((i32 ((k + 1 : Nat) : Int) - 1) / 64 = 0)) = true := by decide
theorem dv0 {k : Nat} (hk : k < 60) : (i32 ((k + 1 : Nat) : Int) - 1) / 64 = 0 := of_decide_eq_true (List.all_eq_true.mp dv0_all k (List.mem_range.mpr hk))
/-- one word of an array of bits -/
def LBt (A i : Nat) (σ : tvS) (B : Nat → Prop) : Prop := ∀ j, j < 64 → (bitL (rl σ A i) j ↔ B j)
def wbt (A i : Nat) (σ : tvS) (k : Nat) : tvS := wl σ A i (rl σ A i ||| mBt k)
theorem LBt.bwr (A i : Nat) : BWR (LBt A i) (wbt A i) [A] := by
  refine ⟨fun σ B k hk h j hj => ?_, fun σ σ' B e h j hj => ?_, fun σ B B' e h j hj => (h j hj).trans (e j hj), fun σ k => ⟨rfl, rfl⟩, fun σ k => frX_wl (by show (Nat.beq A A || false) = true; rw [Nat.beq_refl]; rfl)⟩
  · unfold wbt
    rw [rl_wl, if_pos ⟨rfl, rfl⟩, bit_set hk hj, h j hj]
  · unfold rl
    rw [e]; exact h j hj
theorem neg1 : pv_c1 .lt ((0 : Int32) - 1) = true := by decide
theorem nneg {k : Nat} (hk : k < 60) : pv_c1 .lt (i32 ((k + 1 : Nat) : Int) - 1) = false := by
  rw [show (1 : Int32) = i32 1 from rfl, i32_sub, show ((k + 1 : Nat) : Int) - 1 = (k : Int) by omega, c1_lt (by omega) (by omega)]
  exact decide_eq_false (by omega)
theorem REQ.r189 {i : Nat} (hi : i < 2) : REQ L xs (.ref 189) (i32 (i : Int)) (wbt 189 i) := by
  refine ⟨fun d σ x1 v4 v5 v6 v7 => e353_0 d σ x1 _ v4 v5 v6 v7, fun d σ v1 x4 x5 v6 v7 => e353_11 d σ v1 _ x4 x5 v6 v7, fun d σ v1 x4 x5 t v7 ht h0 => ⟨.int (rd σ 184 t - 1), ?_⟩, fun d σ v1 x4 x5 t k v7 ht hk h0 => ⟨.int (rd σ 184 t - 1), ?_⟩, fun d σ v1 x4 x5 x6 v7 => e353_84 d σ v1 _ x4 x5 x6 v7, fun d σ v1 x4 x5 v6 v7 => e353_97 d σ _ _ _ _ _ x5 v6 v7⟩
  · rw [e353_42, c_in (by omega) (by omega) (by omega), i32_ixn (by omega), h0, neg1, cond_true]
  · rw [e353_42, c_in (by omega) (by omega) (by omega), i32_ixn (by omega), h0, nneg hk, cond_false, dv0 hk, show i32 (i : Int) + 0 = i32 (i : Int) by rw [show (0 : Int32) = i32 0 from rfl, i32_add, Int.add_zero], c_in (by omega) (by omega) (by omega), c_in (by omega) (by omega) (by omega), i32_ixn (by omega)]
    unfold wbt mBt
    rw [dv0 hk]
theorem REQ.r188 {i : Nat} (hi : i < 3003) : REQ L xs (.ref 188) (i32 (i : Int)) (wbt 188 i) := by
  refine ⟨fun d σ x1 v4 v5 v6 v7 => e353b_0 d σ x1 _ v4 v5 v6 v7, fun d σ v1 x4 x5 v6 v7 => e353b_11 d σ v1 _ x4 x5 v6 v7, fun d σ v1 x4 x5 t v7 ht h0 => ⟨.int (rd σ 184 t - 1), ?_⟩, fun d σ v1 x4 x5 t k v7 ht hk h0 => ⟨.int (rd σ 184 t - 1), ?_⟩, fun d σ v1 x4 x5 x6 v7 => e353b_84 d σ v1 _ x4 x5 x6 v7, fun d σ v1 x4 x5 v6 v7 => e353b_97 d σ _ _ _ _ _ x5 v6 v7⟩
  · rw [e353b_42, c_in (by omega) (by omega) (by omega), i32_ixn (by omega), h0, neg1, cond_true]
  · rw [e353b_42, c_in (by omega) (by omega) (by omega), i32_ixn (by omega), h0, nneg hk, cond_false, dv0 hk, show i32 (i : Int) + 0 = i32 (i : Int) by rw [show (0 : Int32) = i32 0 from rfl, i32_add, Int.add_zero], c_in (by omega) (by omega) (by omega), c_in (by omega) (by omega) (by omega), i32_ixn (by omega)]
    unfold wbt mBt
    rw [dv0 hk]
theorem REQ.r187 {i : Nat} (hi : i < 6000) : REQ L xs (.ref 187) (i32 (i : Int)) (wbt 187 i) := by
  refine ⟨fun d σ x1 v4 v5 v6 v7 => e353c_0 d σ x1 _ v4 v5 v6 v7, fun d σ v1 x4 x5 v6 v7 => e353c_11 d σ v1 _ x4 x5 v6 v7, fun d σ v1 x4 x5 t v7 ht h0 => ⟨.int (rd σ 184 t - 1), ?_⟩, fun d σ v1 x4 x5 t k v7 ht hk h0 => ⟨.int (rd σ 184 t - 1), ?_⟩, fun d σ v1 x4 x5 x6 v7 => e353c_84 d σ v1 _ x4 x5 x6 v7, fun d σ v1 x4 x5 v6 v7 => e353c_97 d σ _ _ _ _ _ x5 v6 v7⟩
  · rw [e353c_42, c_in (by omega) (by omega) (by omega), i32_ixn (by omega), h0, neg1, cond_true]
  · rw [e353c_42, c_in (by omega) (by omega) (by omega), i32_ixn (by omega), h0, nneg hk, cond_false, dv0 hk, show i32 (i : Int) + 0 = i32 (i : Int) by rw [show (0 : Int32) = i32 0 from rfl, i32_add, Int.add_zero], c_in (by omega) (by omega) (by omega), c_in (by omega) (by omega) (by omega), i32_ixn (by omega)]
    unfold wbt mBt
    rw [dv0 hk]
/-- none is told -/
theorem REQ.none : REQ L xs .null 0 (fun σ _ => σ) := by
  refine ⟨fun d σ x1 v4 v5 v6 v7 => e353d_0 d σ x1 _ v4 v5 v6 v7, fun d σ v1 x4 x5 v6 v7 => e353d_11 d σ v1 _ x4 x5 v6 v7, fun d σ v1 x4 x5 t v7 ht h0 => ⟨.int (rd σ 184 t - 1), ?_⟩, fun d σ v1 x4 x5 t k v7 ht hk h0 => ⟨.int (rd σ 184 t - 1), ?_⟩, fun d σ v1 x4 x5 x6 v7 => e353d_84 d σ v1 _ x4 x5 x6 v7, fun d σ v1 x4 x5 v6 v7 => e353d_97 d σ _ _ _ _ _ x5 v6 v7⟩
  · rw [e353d_42, c_in (by omega) (by omega) (by omega), i32_ixn (by omega), h0, neg1, cond_true]
  · rw [e353d_42, c_in (by omega) (by omega) (by omega), i32_ixn (by omega), h0, nneg hk, cond_false]
theorem noneB : BWR (fun _ _ => True) (fun σ _ => σ) [] := ⟨fun _ _ _ _ _ => trivial, fun _ _ _ _ _ => trivial, fun _ _ _ _ _ => trivial, fun _ _ => ⟨rfl, rfl⟩, fun _ _ => frX.refl⟩
end REACHCALL
