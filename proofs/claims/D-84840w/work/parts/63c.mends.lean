/-! RUNS, MODEL: the end of a run, of a part; regions of a part -/
/-- it is over: what is told of it -/
def MVR (st c : Nat) (s : cSt) (B no mt : Nat) (τ : tvS) : Prop := (rd τ 123 122 = i32 (c : Int) ∧ rd τ 123 123 = i32 (st : Int) ∧ rd τ 123 124 = i32 (no : Int) ∧ rd τ 123 125 = i32 (s.cl : Int) ∧ rd τ 123 126 = i32 (s.cp : Int) ∧ rd τ 123 127 = 0 ∧ rd τ 123 128 = i32 (s.pk : Int)) ∧ (rd τ 123 129 = i32 ((B - 1 : Nat) : Int) ∧ rd τ 123 130 = 0 ∧ rd τ 123 131 = 0 ∧ rd τ 123 132 = 0 ∧ rd τ 123 135 = 0 ∧ rd τ 123 144 = 0 ∧ rd τ 123 162 = i32 (mt : Int))
/-- pages of regions -/
def pgU (s : cSt) (n : Nat) : Nat := sumF (fun r => (s.R r).2.1) 0 n
/-- regions go -/
def lvS (s : cSt) (n : Nat) : cSt := (s.R, s.cl, s.cp, pgU s n, s.pk)
section MENDS
variable {L : Nat} {xs : Nat → Int32} {τ τ' τ0 τ1 : tvS} {D : pgD} {rg : rgD} {cd : cdD} {vd : Nat → Nat} {N : Nat} {G : tG} {rr : Nat → Nat} {X X' : dyD} {K : List (Nat × Nat × Nat)} {n nr i st c B no mt wd pgs ev oa0 fil f p : Nat} {s : cSt} {fn : Nat → Nat × Nat} {oa : Nat → Nat}
theorem MEn.over {S F : List Nat} (w : frM S F τ τ1) (hS : (S.all fun k => inL RAr k) = true) (hF : (F.all fun k => inL RFl k) = true) (hC : MCn (st, s.cl, s.cp, s.U, s.pk) B τ1) (hno : rd τ1 123 124 = i32 (no : Int)) (hmt : rd τ1 123 162 = i32 (mt : Int)) (hE : MEn c τ1 τ') : MVR st c s B no mt τ' ∧ frM RAr RFl τ τ' := by
  obtain ⟨e0, e1, e2, e3, e4, e5, e6⟩ := hE
  obtain ⟨c1, c2, c3, c4, c5, c6, ⟨c7, _⟩, c8⟩ := hC
  exact ⟨⟨⟨e1, by rw [e0.2 123 rfl]; exact c2, by rw [e0.2 124 rfl]; exact hno, by rw [e0.2 125 rfl]; exact c3, by rw [e0.2 126 rfl]; exact c4, e4, by rw [e0.2 128 rfl]; exact c6⟩, by rw [e0.2 129 rfl]; exact c7, by rw [e0.2 130 rfl]; exact c8, e5, e2, e6, e3, by rw [e0.2 162 rfl]; exact hmt⟩, (w.sub hS hF).trans (e0.sub rfl rfl)⟩
theorem MOv.over {mt' : Nat} {S F : List Nat} (h : MOv st c s B mt' no S F τ τ') (hS : (S.all fun k => inL RAr k) = true) (hF : (F.all fun k => inL RFl k) = true) (hno : ∀ τ1, frM S F τ τ1 → MCn (st, s.cl, s.cp, s.U, s.pk) B τ1 → rd τ1 123 124 = i32 (no : Int)) : MVR st c s B no mt' τ' ∧ frM RAr RFl τ τ' := by
  obtain ⟨τ1, h1, h2, h3, h4⟩ := h
  exact h4.over h1 hS hF h2 (hno τ1 h1 h2) h3.1
theorem RSm.men {S F : List Nat} (h : RSm D rg cd vd N G rr τ) (w : frM S F τ τ1) (hS : (S.all fun k => inL RAr k) = true) (hF : (F.all fun k => inL RFl k) = true) (h1 : inL S 169 = false) (hE : MEn c τ1 τ') : RSm D rg cd vd N G rr τ' := (h.fr w hS hF h1).fr hE.1 rfl rfl rfl
theorem RSm.mov {mt' : Nat} {S F : List Nat} (h : RSm D rg cd vd N G rr τ) (hO : MOv st c s B mt' no S F τ τ') (hS : (S.all fun k => inL RAr k) = true) (hF : (F.all fun k => inL RFl k) = true) (h1 : inL S 169 = false) : RSm D rg cd vd N G rr τ' := by
  obtain ⟨τ1, g1, _, _, g4⟩ := hO
  exact h.men g1 hS hF h1 g4
/-- regions of a part go -/
theorem leave_m {nr0 : Nat} (hnK : rg.nK f ≤ 60) (hf : f ≤ 21) (hp : p < 6000) (hR : ∀ k, k < rg.nK f → rd τ0 194 (64 * f + k + 1) = i32 (rg.ow f k)) (how : ∀ k, k < rg.nK f → -1 ≤ rg.ow f k ∧ rg.ow f k < 4101) (h220 : ∀ r, r < nr0 + (ownN rg f p).length → rd τ0 220 r = i32 ((s.R r).2.1 : Int)) (hnr : nr0 + (ownN rg f p).length ≤ 2000) (v2 : Value) (d : Nat) :
    ∀ (k : Nat) (τ : tvS), k ≤ rg.nK f → frM [] [127, 144] τ0 τ → rd τ 123 144 = i32 ((nr0 + (nfil (fun k => rg.ow f k = (p : Int)) k).length : Nat) : Int) → rd τ 123 127 = i32 (pgU s (nr0 + (nfil (fun k => rg.ow f k = (p : Int)) k).length) : Int) →
      ∃ τ', rn L xs (d + 1) 417 59 [.ref 123, .int (i32 (p : Int)), v2, .int (i32 (f : Int)), .int (i32 (k : Int))] [] τ = some (.inl none, τ') ∧ rd τ' 123 144 = i32 (nr0 : Int) ∧ rd τ' 123 127 = i32 (pgU s nr0 : Int) ∧ frM [] [127, 144] τ0 τ' := by
  intro k
  induction k with
  | zero =>
    intro τ _ w h1 h2
    exact ⟨τ, by rw [e417_59, show (1 : Int32) = i32 1 from rfl, c2_lt (by omega) (by omega) (by omega) (by omega), c_t (by omega), e417_115], h1, h2, w⟩
  | succ k ih =>
    intro τ hk w h1 h2
    have e1 : i32 ((k + 1 : Nat) : Int) + Int32.ofInt (-1) = i32 (k : Int) := by rw [i32_raw, i32_add]; congr 1; omega
    have e64 : (64 : Int32) * i32 (f : Int) + i32 ((k + 1 : Nat) : Int) = i32 ((64 * f + k + 1 : Nat) : Int) := by rw [show (64 : Int32) = i32 64 from rfl, i32_mul, i32_add]; congr 1
    have hw := how k (by omega)
    by_cases c : rg.ow f k = (p : Int)
    · rw [nfil_y c, List.length_append] at h1 h2
      have e0 : [k + 1].length = 1 := rfl
      rw [e0] at h1 h2
      have hlen : (nfil (fun k => rg.ow f k = (p : Int)) k).length + 1 ≤ (ownN rg f p).length := by
        have := nfil_pre (mk := fun k => rg.ow f k = (p : Int)) (rg.nK f - (k + 1)) (k + 1)
        rw [nfil_y c, List.length_append, e0, show k + 1 + (rg.nK f - (k + 1)) = rg.nK f by omega] at this
        exact this
      obtain ⟨q, hq⟩ : ∃ q, q = nr0 + (nfil (fun k => rg.ow f k = (p : Int)) k).length := ⟨_, rfl⟩
      rw [← Nat.add_assoc, ← hq] at h1 h2
      have es : pgU s (q + 1) = pgU s q + (s.R q).2.1 := by show sumF _ 0 q + (s.R (0 + q)).2.1 = _; rw [Nat.zero_add]; rfl
      have e2 : i32 ((q + 1 : Nat) : Int) - 1 = i32 (q : Int) := by rw [show (1 : Int32) = i32 1 from rfl, i32_sub]; congr 1; omega
      have e3 : i32 (pgU s (q + 1) : Int) - i32 ((s.R q).2.1 : Int) = i32 (pgU s q : Int) := by rw [es, i32_sub]; congr 1; omega
      obtain ⟨τ', a1, a2, a3, a4⟩ := ih (wr (wr τ 123 144 (i32 (q : Int))) 123 127 (i32 (pgU s q : Int))) (by omega) (w.trans ((frM_w rfl).trans (frM_w rfl))) (by rw [wr_nei (by decide), wr_self, hq]) (by rw [wr_self, hq])
      refine ⟨τ', ?_, a2, a3, a4⟩
      rw [e417_59, show (1 : Int32) = i32 1 from rfl, c2_lt (by omega) (by omega) (by omega) (by omega), c_f (by omega), e64, c_in (by omega) (by omega) (by omega), i32_ixn (by omega), w.rd (j := 194) rfl, hR k (by omega), c2_ne (by omega) (by omega) (by omega) (by omega), c_f (by omega), h1, show i32 1 = (1 : Int32) from rfl, e2, c_in (by omega) (by omega) (by omega), i32_ixn (by omega), w.rd (j := 220) rfl, h220 q (by omega), h2, e3, e417_109, e1]
      exact a1
    · rw [nfil_n c] at h1 h2
      obtain ⟨τ', a1, a2, a3, a4⟩ := ih τ (by omega) w h1 h2
      refine ⟨τ', ?_, a2, a3, a4⟩
      rw [e417_59, show (1 : Int32) = i32 1 from rfl, c2_lt (by omega) (by omega) (by omega) (by omega), c_f (by omega), e64, c_in (by omega) (by omega) (by omega), i32_ixn (by omega), w.rd (j := 194) rfl, hR k (by omega), c2_ne (by omega) (by omega) (by omega) (by omega), c_t (by omega), e417_109, e1]
      exact a1
theorem RCO.sub {n' : Nat} {o : Nat} (hx : X' = (uq X.sv n' (X.sv (n - 1)), X.2)) (hn : n' < n) (h : RCO X' (n' + 1) o) : RCO X n o := by
  obtain ⟨k, h1, h2⟩ := h
  rw [hx] at h2
  have h2 : ROb X.hp X.no (uq X.sv n' (X.sv (n - 1)) k) o := h2
  by_cases e : k = n'
  · rw [e, uq_self] at h2; exact ⟨n - 1, by omega, h2⟩
  · rw [uq_ne e] at h2; exact ⟨k, by omega, h2⟩
theorem MOb.sub {n' : Nat} (h : MOb X n oa fil τ) (h1 : X'.2.1 = X.2.1) (hR : ∀ o, RCO X' n' o → RCO X n o) : MOb X' n' oa fil τ := by
  obtain ⟨a, b, c, d, e, f⟩ := h
  have e1 : X'.hp = X.hp := by unfold dyD.hp; rw [h1]
  have e2 : X'.no = X.no := by unfold dyD.no; rw [h1]
  refine ⟨by rw [e2]; exact a, b, c, by rw [e1, e2]; exact d, fun o ho => by rw [e1]; exact e o (hR o ho), fun o o' ho ho' hl => by rw [e1]; exact f o o' (hR o ho) (hR o' ho') hl⟩
theorem pgU_le {a : Nat} (h : a ≤ n) : pgU s a ≤ pgU s n := by
  have := sumF_add (w := fun r => (s.R r).2.1) (n - a) 0 a
  rw [show a + (n - a) = n by omega] at this
  unfold pgU
  omega
theorem oSt.lv {a : Nat} (h : oSt s nr wd pgs no) (ha : a ≤ nr) : oSt (lvS s a) a wd pgs no := by
  obtain ⟨h1, h2, h3, h4⟩ := h
  refine ⟨?_, h2, rfl, fun r hr => h4 r (by omega)⟩
  show pgU s a ≤ s.pk
  have := pgU_le (s := s) ha
  have h3 : pgU s nr = s.U := h3
  omega
/-- a part ends -/
theorem endp_m {b : Nat} (hRS : RSm D rg cd vd N G rr τ) (hF : MFr X i τ) (hS : MSk fn s X n nr st oa fil mt pgs wd ev τ) (hf : X.ff i = f) (hfc : f ≤ D.fc) (hfc2 : D.fc ≤ 20) (hnK : rg.nK f ≤ 60) (hp : p < 6000) (how : ∀ k, k < rg.nK f → -1 ≤ rg.ow f k ∧ rg.ow f k < 4101) (hb : b < n) {nr0 : Nat} (hnr : nr0 + (ownN rg f p).length = nr) (hx : X' = (uq X.sv b (X.sv (n - 1)), X.2)) (v3 v4 : Value) (d : Nat) :
    ∃ τ', rn L xs (d + 1) 417 0 [.ref 123, .int (i32 (p : Int)), .int (i32 (b : Int)), v3, v4] [] τ = some (.inl none, τ') ∧ MSk fn (lvS s nr0) X' (b + 1) nr0 st oa fil mt pgs wd ev τ' ∧ frM [207, 208] [127, 132, 144] τ τ' := by
  obtain ⟨⟨s1, s2, s3⟩, hO, ⟨⟨r1, r2, r3⟩, hC⟩, hMk, hok, hcp, h119, h120, h121⟩ := hS
  obtain ⟨f1, f2, f3, f4⟩ := hF
  obtain ⟨d1, _⟩ := f4 i (Nat.le_refl _)
  rw [hf] at d1
  obtain ⟨_, n1, _, _, n4⟩ := hRS.2.1 f hfc
  obtain ⟨q1, q2⟩ := s3 (n - 1) (by omega)
  have en : i32 (n : Int) - 1 = i32 ((n - 1 : Nat) : Int) := by rw [show (1 : Int32) = i32 1 from rfl, i32_sub]; congr 1; omega
  obtain ⟨τ1, h1⟩ : ∃ τ1, τ1 = wr (wr (wr τ 207 b (i32 ((X.sv (n - 1)).1 : Int))) 208 b (X.sv (n - 1)).2) 123 132 (i32 ((b + 1 : Nat) : Int)) := ⟨_, rfl⟩
  have w1 : frM [207, 208] [132] τ τ1 := by rw [h1]; exact ((frM_wr rfl (by decide)).trans (frM_wr rfl (by decide))).trans (frM_w rfl)
  have hU : pgU s nr = s.U := hok.2.2.1
  obtain ⟨τ2, a1, a2, a3, a4⟩ := leave_m (L := L) (xs := xs) (τ0 := τ1) (nr0 := nr0) (s := s) hnK (by omega) hp (fun k hk => by rw [w1.rd (j := 194) rfl]; exact n4 k hk) how (fun r hr => by rw [w1.rd (j := 220) rfl]; exact (r3 r (by omega)).2.2.2.2.1) (by omega) (.int (i32 (b : Int))) d (rg.nK f) τ1 (Nat.le_refl _) frM.refl (by rw [w1.2 144 rfl, r1, ← hnr]; rfl) (by rw [w1.2 127 rfl, hC.2.2.2.2.1, ← hU, ← hnr]; rfl)
  have w2 : frM [207, 208] [127, 132, 144] τ τ2 := (w1.sub rfl rfl).trans (a4.sub rfl rfl)
  have e1 : X'.2 = X.2 := by rw [hx]
  have eB : X'.B = X.B := by unfold dyD.B; rw [e1]
  have eno : X'.no = X.no := by unfold dyD.no; rw [e1]
  have eser : X'.ser = X.ser := by unfold dyD.ser; rw [e1]
  refine ⟨τ2, ?_, ⟨⟨?_, by omega, fun k hk => ?_⟩, (hO.fr w2 ⟨rfl, rfl, rfl, rfl, rfl, rfl, rfl, rfl, rfl⟩ ⟨rfl, rfl⟩).sub (by rw [e1]) (fun o ho => RCO.sub hx hb ho), ⟨⟨a2, by omega, fun r hr => ?_⟩, ?_⟩, by rw [eno]; exact hMk.fr w2 rfl rfl, by rw [eno]; exact oSt.lv hok (by omega), hcp, by rw [w2.2 119 rfl]; exact h119, by rw [w2.2 120 rfl]; exact h120, by rw [w2.2 121 rfl]; exact h121⟩, w2⟩
  · rw [e417_0, s1, en, c_in (by omega) (by omega) (by omega), c_in (by omega) (by omega) (by omega), c_in (by omega) (by omega) (by omega), c_in (by omega) (by omega) (by omega), f1, c_in (by omega) (by omega) (by omega), i32_ixn (by omega), i32_ixn (by omega), i32_ixn (by omega), d1, c_in (by omega) (by omega) (by omega), i32_ixn (by omega), n1, q1, q2, i32_up, ← h1]
    exact a1
  · rw [a4.2 132 rfl, h1, wr_self]
  · rw [a4.rd (j := 207) rfl, a4.rd (j := 208) rfl, h1, hx]
    show _ = i32 ((uq X.sv b (X.sv (n - 1)) k).1 : Int) ∧ _ = (uq X.sv b (X.sv (n - 1)) k).2
    by_cases e : k = b
    · subst e
      rw [uq_self, wr_nek (by decide), wr_nek (by decide), wr_self, wr_nek (by decide), wr_self]; exact ⟨rfl, rfl⟩
    · rw [uq_ne e, wr_nek (by decide), wr_nek (by decide), wr_nei e, wr_nek (by decide), wr_nei e, wr_nek (by decide)]; exact s3 k (by omega)
  · rw [w2.rd (j := 216) rfl, w2.rd (j := 217) rfl, w2.rd (j := 218) rfl, w2.rd (j := 219) rfl, w2.rd (j := 220) rfl, w2.rd (j := 221) rfl, eser]; exact r3 r (by omega)
  · obtain ⟨c1, c2, c3, c4, c5, c6, c7, c8⟩ := hC
    rw [eB]
    exact ⟨by rw [w2.2 122 rfl]; exact c1, by rw [w2.2 123 rfl]; exact c2, by rw [w2.2 125 rfl]; exact c3, by rw [w2.2 126 rfl]; exact c4, a3, by rw [w2.2 128 rfl]; exact c6, by rw [w2.2 129 rfl]; exact c7, by rw [w2.2 130 rfl]; exact c8⟩
/-- one region more, plainly -/
def mkX (X : dyD) (i k nr : Nat) : dyD := (X.sv, (X.hp, X.no, X.B + 1), uq X.ser nr X.B, X.fr, (fun j e => if j = i ∧ e = k then nr else X.aR j e), X.aV)
theorem mkX_ok {k : Nat} : MKRg X (mkX X i k nr) i k nr := ⟨rfl, rfl, rfl, rfl, rfl, rfl, fun _ _ => rfl, rfl⟩
/-- regions of a part -/
def mkL (X : dyD) (i nr : Nat) : List Nat → dyD
  | [] => X
  | k :: l => mkL (mkX X i k nr) i (nr + 1) l
def mkF (fn : Nat → Nat × Nat) (f nr : Nat) : List Nat → Nat → Nat × Nat
  | [] => fn
  | k :: l => mkF (uq fn nr (f, k)) f (nr + 1) l
def mkS (s : cSt) (nr : Nat) : List Nat → cSt
  | [] => s
  | _ :: l => mkS (uq s.R nr (0, 0, 0), s.2) (nr + 1) l
theorem mkL_app (a b : List Nat) : ∀ (X : dyD) (nr : Nat), mkL X i nr (a ++ b) = mkL (mkL X i nr a) i (nr + a.length) b := by
  induction a with
  | nil => intro X nr; rfl
  | cons k l ih => intro X nr; show mkL (mkX X i k nr) i (nr + 1) (l ++ b) = mkL (mkL (mkX X i k nr) i (nr + 1) l) i (nr + (l.length + 1)) b; rw [ih, show nr + 1 + l.length = nr + (l.length + 1) by omega]
theorem mkF_app (a b : List Nat) : ∀ (fn : Nat → Nat × Nat) (nr : Nat), mkF fn f nr (a ++ b) = mkF (mkF fn f nr a) f (nr + a.length) b := by
  induction a with
  | nil => intro X nr; rfl
  | cons k l ih => intro fn nr; show mkF (uq fn nr (f, k)) f (nr + 1) (l ++ b) = mkF (mkF (uq fn nr (f, k)) f (nr + 1) l) f (nr + (l.length + 1)) b; rw [ih, show nr + 1 + l.length = nr + (l.length + 1) by omega]
theorem mkS_app (a b : List Nat) : ∀ (s : cSt) (nr : Nat), mkS s nr (a ++ b) = mkS (mkS s nr a) (nr + a.length) b := by
  induction a with
  | nil => intro X nr; rfl
  | cons k l ih => intro s nr; show mkS (uq s.R nr (0, 0, 0), s.2) (nr + 1) (l ++ b) = mkS (mkS (uq s.R nr (0, 0, 0), s.2) (nr + 1) l) (nr + (l.length + 1)) b; rw [ih, show nr + 1 + l.length = nr + (l.length + 1) by omega]
theorem mkL_B : ∀ (l : List Nat) (X : dyD) (nr : Nat), (mkL X i nr l).B = X.B + l.length ∧ (mkL X i nr l).sv = X.sv ∧ (mkL X i nr l).hp = X.hp ∧ (mkL X i nr l).no = X.no ∧ (mkL X i nr l).fr = X.fr ∧ (mkL X i nr l).aV = X.aV := by
  intro l
  induction l with
  | nil => intro X nr; exact ⟨rfl, rfl, rfl, rfl, rfl, rfl⟩
  | cons k l ih =>
    intro X nr
    obtain ⟨h1, h2, h3, h4, h5, h6⟩ := ih (mkX X i k nr) (nr + 1)
    refine ⟨?_, h2, h3, h4, h5, h6⟩
    show (mkL (mkX X i k nr) i (nr + 1) l).B = X.B + (l.length + 1)
    rw [h1]; show X.B + 1 + l.length = _; omega
theorem mkS_2 : ∀ (l : List Nat) (s : cSt) (nr : Nat), (mkS s nr l).2 = s.2 := by
  intro l
  induction l with
  | nil => intro s nr; rfl
  | cons k l ih => intro s nr; show (mkS (uq s.R nr (0, 0, 0), s.2) (nr + 1) l).2 = _; rw [ih]
end MENDS
