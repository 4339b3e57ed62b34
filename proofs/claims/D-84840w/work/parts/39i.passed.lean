/-! TYPING, BOTH: what a call is handed -/
section PASSED
variable {L : Nat} {xs : Nat → Int32} {σ σ' τ τ' : tvS}
variable {K1 K2 Bc Bm f : Nat} {Rc Rm : Nat → Nat → Prop} {pd pd' : List (Nat × List Nat × (Nat → Nat))} {n u a rc rc' : Nat} {T T1 : tyJ} {p : Nat}
/-- once it is known which type is wanted, on both sides -/
theorem plc_pass {q w x1 y1 x2 y2 l : Nat} {kids : List Nat} {t1 : tvS} {k0 : Int32} (hK2 : 6 ≤ K2) (hp : p < 4101) (hρ : rd σ 25 p = i32 6) (hq : q < 4101) (h1 : rd σ 24 p = i32 (q : Int)) (h2 : rd τ 159 p = i32 (q : Int)) (h3 : rd τ 151 q = i32 4) (h0 : rd τ 154 q = k0) (h6 : rd σ 20 q = kid kids 0) (hk : ∀ w c : Nat, kids[w]? = some c → c < 4101 ∧ rd σ 23 c = kid kids (w + 1)) (hnd : kids.Nodup) (hw : kids[w]? = some p)
    (d dm : Nat) (hC : rn L xs (d + 5) 148 0 [.ref 65, .int (i32 (q : Int)), .int (i32 (w : Int)), .int (i32 (f : Int)), jv] [] σ = some (.inl (some (.int (i32 (x2 : Int)))), σ)) (hM : rn L xs (dm + 7) 347 0 [.ref 123, .int (i32 (f : Int)), .int (i32 (q : Int)), .int (i32 (p : Int)), jv, jv] [] τ = some (.inl (some (.int (i32 (y2 : Int)))), t1))
    (hT : TJ K1 K2 Bc Bm f Rc Rm pd' n u (a + 1) rc' T1 σ t1) (hx : exT Bc Bm T T1) (wf : frM FMO FMF τ t1) (hl : rd σ 17 p = i32 (l : Int)) (hl2 : l < 3001) (h5 : rd σ 66 p = i32 (x1 : Int)) (h4 : rd τ 178 p = i32 (y1 : Int)) (z1 : T1.2.2 x1 y1) (z2 : T1.2.2 x2 y2) (c1 : cuN Bc x1) (c2 : cuN Bc x2) (m1 : cuN Bm y1) (m2 : cuN Bm y2) : PLC L xs K1 K2 Bc Bm f Rc Rm pd pd' n u a rc' T p l d dm σ τ t1 (fun T' s t => exT Bc Bm T1 T' ∧ k67 σ t1 s t ∧ LOC T1 T' (fun b => b = x1 ∨ b = x2) (fun b => b = x1 ∨ b = x2) ∧ yC T' x1 = yC T' x2) := by
  have p152 : rn L xs (d + 5) 152 0 [.ref 65, .int (i32 (p : Int)), jv, jv] [] σ = some (.inl (some (.int (i32 (w : Int)))), σ) := by
    rw [e152_0 (d + 4), c_in (by omega) (by omega) (by omega), i32_ixn (by omega), h1, c_in (by omega) (by omega) (by omega), i32_ixn (by omega), h6]
    exact order_c (L := L) (xs := xs) (q := q) hk hnd (d + 4) w 0 w (by omega) hw
  have gc : ∃ u4 u5, rn L xs (d + 6) 149 0 [.ref 65, .int (i32 (p : Int)), .int (i32 (f : Int)), jv, jv, jv] [] σ = bV (rn L xs (d + 5) 150 0 [.ref 65, .int (i32 (p : Int)), .int (i32 (x2 : Int))] [] σ) (fun s1 => rn L xs (d + 6) 149 355 [.ref 65, .int (i32 (p : Int)), .int (i32 (f : Int)), .int (i32 (q : Int)), u4, u5] [] s1) X0 := by
    refine ⟨dj (dj (dj jv)), dj (dj (dj jv)), ?_⟩
    rw [plc0_c (ρ := 6) (q := 0) hp (by omega) hρ (d + 5), show t149 6 = 202 from rfl, h1, e149_202 (d + 5), bI_ok p152, bI_ok hC]
  obtain ⟨u4, u5, gc⟩ := gc
  have gm : ∀ (z : Int32) (t : tvS), b01 z = true → rn L xs (dm + 7) 341 0 [.ref 123, .int (i32 (y1 : Int)), .int (i32 (y2 : Int)), jv, jv, jv, jv] [] t1 = some (.inl (some (.int z)), t) → rn L xs (dm + 8) 340 0 [.ref 123, .int (i32 (f : Int)), .int (i32 (p : Int)), jv, jv, jv, jv, jv] [] τ = some (.inl (some (.int z)), t) := by
    intro z t hz h
    rw [plc0_m (κ := 4) (by omega) hq (by omega) h2 h3 h4 h0 (dm + 7), show t340 4 = 282 from rfl, e340_282 (dm + 7), bI_ok hM, bI_ok h, hz, cond_true]
  rcases want_J (L := L) (xs := xs) hT hK2 hp h5 hl hl2 z1 z2 c1 c2 m1 m2 d (dm + 3) with ⟨s0, t4, q1, q2, q3, q4, q5⟩ | ⟨s4, t4, T4, q1, q2, q3, q4, q5, q6, q7, q8⟩
  · exact .inl ⟨s0, t4, by rw [gc, bV_ex q1]; rfl, gm 0 t4 b01_0 q2, q3, q4, q5.sub rfl rfl⟩
  · exact .inr ⟨s4, t4, T4, by rw [gc, bV_ok q1, e149_355], gm 1 t4 b01_1 q2, q3, hx.trans q4, q6.sub rfl rfl rfl, q7.sub rfl rfl, q4, ⟨fun i => q6.rd (j := 67) rfl i, fun i => q7.rd (j := 179) rfl i⟩, q8, q5⟩
/-- of the function itself -/
theorem pass_self {q w V kk x2 y2 gv : Nat} {kids : List Nat} (hq : q < 4101) (hf : f < 21) (h3 : rd σ 27 q = i32 (f : Int)) (h3' : rd τ 157 q = i32 (f : Int)) (h4 : rd σ 44 f = i32 (kk : Int)) (hkk : kk ≤ 5) (hwk : w < kk) (h5 : rd σ 45 f = i32 (V : Int)) (h5' : rd τ 141 f = i32 (V : Int)) (hV : V + kk ≤ 3002) (h6 : rd σ 67 (V + w) = i32 (x2 : Int)) (h6' : rd τ 179 (V + w) = i32 (y2 : Int))
    (g1 : rd τ 162 q = i32 (gv : Int)) (hg : gv + kids.length ≤ 6000) (hk : ∀ w c : Nat, kids[w]? = some c → c < 4101 ∧ rd τ 164 (gv + w) = i32 (c : Int)) (hnd : kids.Nodup) (hw : kids[w]? = some p) (d dm : Nat) :
    rn L xs (d + 5) 148 0 [.ref 65, .int (i32 (q : Int)), .int (i32 (w : Int)), .int (i32 (f : Int)), jv] [] σ = some (.inl (some (.int (i32 (x2 : Int)))), σ) ∧ rn L xs (dm + 7) 347 0 [.ref 123, .int (i32 (f : Int)), .int (i32 (q : Int)), .int (i32 (p : Int)), jv, jv] [] τ = some (.inl (some (.int (i32 (y2 : Int)))), τ) := by
  have p144 : rn L xs (d + 4) 144 0 [.ref 65, .int (i32 (f : Int)), .int (i32 (w : Int))] [] σ = some (.inl (some (.int (i32 (x2 : Int)))), σ) := by
    rw [e144_0, c_in (by omega) (by omega) (by omega), i32_ixn (by omega), h5, i32_add, show (V : Int) + (w : Int) = ((V + w : Nat) : Int) from by omega, c_in (by omega) (by omega) (by omega), i32_ixn (by omega), h6]
  constructor
  · rw [e148_0 (d + 4), c_in (by omega) (by omega) (by omega), i32_ixn (by omega), h3, c2_ge (by omega) (by omega) (by omega) (by omega), c_t (by omega), e148_31 (d + 4), c_in (by omega) (by omega) (by omega), i32_ixn (by omega), h4, c2_ge (by omega) (by omega) (by omega) (by omega), c_f (by omega), bI_ok p144, e148_62]
  · have om := order_m (L := L) (xs := xs) (p := p) (by omega) g1 hg hk hnd (dm + 6) (i32 (f : Int)) jv w 0 w (by omega) hw
    have om' : rn L xs (dm + 7) 347 3 [.ref 123, .int (i32 (f : Int)), .int (i32 (q : Int)), .int (i32 (p : Int)), .int 0, jv] [] τ = rn L xs (dm + 7) 347 27 [.ref 123, .int (i32 (f : Int)), .int (i32 (q : Int)), .int (i32 (p : Int)), .int (i32 (w : Int)), jv] [] τ := om
    rw [e347_0 (dm + 6), om', e347_27, c_in (by omega) (by omega) (by omega), i32_ixn (by omega), h3', c2_ne (by omega) (by omega) (by omega) (by omega), c_f (by omega), c_in (by omega) (by omega) (by omega), i32_ixn (by omega), h5', i32_add, show (V : Int) + (w : Int) = ((V + w : Nat) : Int) from by omega, c_in (by omega) (by omega) (by omega), i32_ixn (by omega), h6', e347_72]
/-- of a function before -/
theorem pass_old {q w g n0 n1 x2 y2 gv : Nat} {kids : List Nat} {t1 : tvS} (hq : q < 4101) (hf : f < 21) (hg' : g < f) (h3 : rd σ 27 q = i32 (g : Int)) (h3' : rd τ 157 q = i32 (g : Int)) (h5 : rd σ 69 q = i32 (n0 : Int)) (h6 : rd σ 70 (n0 + w) = i32 (x2 : Int)) (h7 : n0 + w < ln σ 70) (h8 : ln σ 70 ≤ 32768)
    (g1 : rd τ 162 q = i32 (gv : Int)) (hg : gv + kids.length ≤ 6000) (hk : ∀ w c : Nat, kids[w]? = some c → c < 4101 ∧ rd τ 164 (gv + w) = i32 (c : Int)) (hnd : kids.Nodup) (hw : kids[w]? = some p) (d dm : Nat)
    (hF : rn L xs (dm + 6) 335 0 [.ref 123, .int (i32 (q : Int)), jv, jv] [] τ = some (.inl (some (.int (i32 (n1 : Int)))), t1)) (hn1 : n1 + w < 60000) (h9 : rd t1 182 (n1 + w) = i32 (y2 : Int)) :
    rn L xs (d + 5) 148 0 [.ref 65, .int (i32 (q : Int)), .int (i32 (w : Int)), .int (i32 (f : Int)), jv] [] σ = some (.inl (some (.int (i32 (x2 : Int)))), σ) ∧ rn L xs (dm + 7) 347 0 [.ref 123, .int (i32 (f : Int)), .int (i32 (q : Int)), .int (i32 (p : Int)), jv, jv] [] τ = some (.inl (some (.int (i32 (y2 : Int)))), t1) := by
  constructor
  · rw [e148_0 (d + 4), c_in (by omega) (by omega) (by omega), i32_ixn (by omega), h3, c2_ge (by omega) (by omega) (by omega) (by omega), c_f (by omega), c_in (by omega) (by omega) (by omega), h5, i32_add, show (n0 : Int) + (w : Int) = ((n0 + w : Nat) : Int) from by omega, c_in (by omega) (by omega) (by omega), i32_ixn (by omega), h6]
  · have om := order_m (L := L) (xs := xs) (p := p) (by omega) g1 hg hk hnd (dm + 6) (i32 (f : Int)) jv w 0 w (by omega) hw
    have om' : rn L xs (dm + 7) 347 3 [.ref 123, .int (i32 (f : Int)), .int (i32 (q : Int)), .int (i32 (p : Int)), .int 0, jv] [] τ = rn L xs (dm + 7) 347 27 [.ref 123, .int (i32 (f : Int)), .int (i32 (q : Int)), .int (i32 (p : Int)), .int (i32 (w : Int)), jv] [] τ := om
    rw [e347_0 (dm + 6), om', e347_27, c_in (by omega) (by omega) (by omega), i32_ixn (by omega), h3', c2_ne (by omega) (by omega) (by omega) (by omega), c_t (by omega), e347_59 (dm + 6), bI_ok hF, i32_add, show (n1 : Int) + (w : Int) = ((n1 + w : Nat) : Int) from by omega, c_in (by omega) (by omega) (by omega), i32_ixn (by omega), h9, e347_72]
/-- the copy that is there already -/
theorem first_done {q n1 : Nat} (hq : q < 6000) (h : rd τ 181 q = i32 (n1 : Int)) (hn : n1 < 60000) (d : Nat) (v2 v3 : Value) : rn L xs (d + 1) 335 0 [.ref 123, .int (i32 (q : Int)), v2, v3] [] τ = some (.inl (some (.int (i32 (n1 : Int)))), τ) := by
  rw [e335_0, c_in (by omega) (by omega) (by omega), i32_ixn (by omega), h, i32_raw, c2_ne (by omega) (by omega) (by omega) (by omega), c_t (by omega), e335_182, c_in (by omega) (by omega) (by omega), i32_ixn (by omega), h]
end PASSED
