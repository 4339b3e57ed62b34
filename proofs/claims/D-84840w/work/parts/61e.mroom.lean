/-! COLLECTIONS, MODEL: all that is met -/
section MSCAN
variable {L : Nat} {xs : Nat → Int32} {τ τ' τ0 : tvS} {n nr i fil mt : Nat} {X : dyD} {Y : rgY} {oa : Nat → Nat} {B wd pgs U pk st cl cp : Nat}
/-- of all that is met -/
def LVQ (X : dyD) (Q0 : List Nat) (n nr wd : Nat) : Prop := ∀ k o, o ∈ bfQ X.hp Q0 k → ((X.hp o).gi < nr ∧ X.ser (X.hp o).gi = (X.hp o).se) ∧ RCO X n o ∧ szO (X.hp o) ≤ wd
/-- one object: room for it -/
theorem room_m {o k f : Nat} {A : alD} (hO : MOb X n oa fil τ) (hR : rd τ 123 144 = i32 (nr : Int)) (hnr : nr ≤ 2000) (hno : X.no ≤ 30000) (ho : 1 ≤ o ∧ o ≤ X.no) (hg : (X.hp o).gi < nr) (hs : szO (X.hp o) ≤ wd) (hwd : wd ≤ 128) (hk : k ≤ 30000) (hA : MAl A nr τ) (hB : alB A k wd) (hf : A.2 = f) (hfk : f ≤ k) (hC : MCn (st, cl, cp, U, max pk (U + f)) B τ) (hpk : U ≤ pk) (hU : U + f ≤ pgs) (hpg : pgs ≤ 400) (hpkg : pk ≤ 400) (h119 : rd τ 123 119 = i32 (pgs : Int)) (h120 : rd τ 123 120 = i32 (wd : Int)) (x1 x4 : Int32) (v6 v7 : Value) (d : Nat) :
    (U + (pgA wd A (X.hp o).gi (szO (X.hp o))).2 ≤ pgs ∧ ∃ τ' v6', rn L xs (d + 2) 404 121 [.ref 123, .int x1, .int (i32 (f : Int)), .int (i32 (k : Int)), .int x4, .int (i32 (o : Int)), v6, v7] [] τ = rn L xs (d + 2) 404 268 [.ref 123, .int x1, .int (i32 ((pgA wd A (X.hp o).gi (szO (X.hp o))).2 : Int)), .int (i32 ((k + 1 : Nat) : Int)), .int x4, .int (i32 (o : Int)), v6', .int 0] [] τ' ∧ MAl (pgA wd A (X.hp o).gi (szO (X.hp o))) nr τ' ∧ MCn (st, cl, cp, U, max pk (U + (pgA wd A (X.hp o).gi (szO (X.hp o))).2)) B τ' ∧ frM [222, 223, 224] [128] τ τ') ∨
    (U + (pgA wd A (X.hp o).gi (szO (X.hp o))).2 = pgs + 1 ∧ ∃ τ', rn L xs (d + 2) 404 121 [.ref 123, .int x1, .int (i32 (f : Int)), .int (i32 (k : Int)), .int x4, .int (i32 (o : Int)), v6, v7] [] τ = some (.inl (some (.int 0)), τ') ∧ MEn 5 τ τ') := by
  obtain ⟨o1, o2, o3, o4, o5, o6⟩ := (hO.2.2.2.1 o ho.1 ho.2).1
  obtain ⟨a1, a2, a3⟩ := hA _ hg
  obtain ⟨b1, b2, b3⟩ := hB (X.hp o).gi
  have hC0 := hC
  obtain ⟨c1, c2, c3, c4, c5, c6, c7, c8⟩ := hC
  have c5 : rd τ 123 127 = i32 (U : Int) := c5
  have c6 : rd τ 123 128 = i32 ((max pk (U + f) : Nat) : Int) := c6
  have hmx : max pk (U + f) ≤ 800 := by omega
  -- behind it: the words
  have fin : ∀ (s : tvS) (z : Nat × Nat × Nat) (f' : Nat), frM [223, 224] [128] τ s → rd s 224 (X.hp o).gi = i32 (z.2.2 : Int) → z.2.2 ≤ wd → rd s 223 (X.hp o).gi = i32 (z.2.1 : Int) → (∀ q, q ≠ (X.hp o).gi → rd s 223 q = rd τ 223 q ∧ rd s 224 q = rd τ 224 q) → rd s 123 128 = i32 ((max pk (U + f') : Nat) : Int) →
      ∃ τ' v6', rn L xs (d + 2) 404 234 [.ref 123, .int x1, .int (i32 (f' : Int)), .int (i32 (k : Int)), .int x4, .int (i32 (o : Int)), .int (i32 ((X.hp o).gi : Int)), v7] [] s = rn L xs (d + 2) 404 268 [.ref 123, .int x1, .int (i32 (f' : Int)), .int (i32 ((k + 1 : Nat) : Int)), .int x4, .int (i32 (o : Int)), v6', .int 0] [] τ' ∧ MAl (uq A.1 (X.hp o).gi ((A.1 (X.hp o).gi).1 + 1, z.2.1, z.2.2 + szO (X.hp o)), f') nr τ' ∧ MCn (st, cl, cp, U, max pk (U + f')) B τ' ∧ frM [222, 223, 224] [128] τ τ' := by
    intro s z f' w z1 z2 z3 z4 z5
    have w' : frM [222, 224] [] s (wr (wr s 224 (X.hp o).gi (i32 ((z.2.2 + szO (X.hp o) : Nat) : Int))) 222 (X.hp o).gi (i32 (((A.1 (X.hp o).gi).1 + 1 : Nat) : Int))) := (frM_wr rfl (by decide)).trans (frM_wr rfl (by decide))
    refine ⟨wr (wr s 224 (X.hp o).gi (i32 ((z.2.2 + szO (X.hp o) : Nat) : Int))) 222 (X.hp o).gi (i32 (((A.1 (X.hp o).gi).1 + 1 : Nat) : Int)), .int (i32 ((X.hp o).gi : Int)), ?_, fun r hr => ?_, ?_, (w.sub rfl rfl).trans (w'.sub rfl rfl)⟩
    · rw [e404_234, c_in (by omega) (by omega) (by omega), c_in (by omega) (by omega) (by omega), c_in (by omega) (by omega) (by omega), c_in (by omega) (by omega) (by omega), c_in (by omega) (by omega) (by omega), i32_ixn (by omega), i32_ixn (by omega), z1, w.rd (j := 226) rfl, o2, i32_add, show ((z.2.2 : Int) + (szO (X.hp o) : Int)) = ((z.2.2 + szO (X.hp o) : Nat) : Int) by omega, w.rd (j := 222) rfl, a1, i32_up, i32_up]
    · dsimp only
      by_cases e : r = (X.hp o).gi
      · subst e
        rw [uq_self, wr_self, wr_nek (by decide), wr_nek (by decide), wr_nek (by decide), wr_self]
        exact ⟨rfl, z3, rfl⟩
      · rw [uq_ne e, wr_nei e, wr_nei e, wr_nei e, wr_nei e, wr_nei e, wr_nei e, w.rd (j := 222) rfl, (z4 r e).1, (z4 r e).2]
        exact hA r hr
    · have g : ∀ q, inL [128] q = false → rd (wr (wr s 224 (X.hp o).gi (i32 ((z.2.2 + szO (X.hp o) : Nat) : Int))) 222 (X.hp o).gi (i32 (((A.1 (X.hp o).gi).1 + 1 : Nat) : Int))) 123 q = rd τ 123 q := fun q hq => by rw [w'.2 q rfl, w.2 q hq]
      unfold MCn
      rw [g 122 rfl, g 123 rfl, g 125 rfl, g 126 rfl, g 127 rfl, g 129 rfl, g 130 rfl, w'.2 128 rfl]
      exact ⟨c1, c2, c3, c4, c5, z5, c7, c8⟩
  -- a page more
  have pg : (A.1 (X.hp o).gi).2.1 = 0 ∨ wd < (A.1 (X.hp o).gi).2.2 + szO (X.hp o) → (U + (f + 1) ≤ pgs ∧ ∃ τ' v6', rn L xs (d + 2) 404 162 [.ref 123, .int x1, .int (i32 (f : Int)), .int (i32 (k : Int)), .int x4, .int (i32 (o : Int)), .int (i32 ((X.hp o).gi : Int)), v7] [] τ = rn L xs (d + 2) 404 268 [.ref 123, .int x1, .int (i32 ((f + 1 : Nat) : Int)), .int (i32 ((k + 1 : Nat) : Int)), .int x4, .int (i32 (o : Int)), v6', .int 0] [] τ' ∧ MAl (uq A.1 (X.hp o).gi ((A.1 (X.hp o).gi).1 + 1, (A.1 (X.hp o).gi).2.1 + 1, szO (X.hp o)), f + 1) nr τ' ∧ MCn (st, cl, cp, U, max pk (U + (f + 1))) B τ' ∧ frM [222, 223, 224] [128] τ τ') ∨ (U + (f + 1) = pgs + 1 ∧ ∃ τ', rn L xs (d + 2) 404 162 [.ref 123, .int x1, .int (i32 (f : Int)), .int (i32 (k : Int)), .int x4, .int (i32 (o : Int)), .int (i32 ((X.hp o).gi : Int)), v7] [] τ = some (.inl (some (.int 0)), τ') ∧ MEn 5 τ τ') := fun hc => by
    have e1 : i32 (U : Int) + i32 (f : Int) = i32 ((U + f : Nat) : Int) := by rw [i32_add]; congr 1
    have e2 : i32 (U : Int) + i32 ((f + 1 : Nat) : Int) = i32 ((U + (f + 1) : Nat) : Int) := by rw [i32_add]; congr 1
    by_cases q : U + f = pgs
    · right
      obtain ⟨s, s1, s2⟩ := end_m (L := L) (xs := xs) (τ := τ) 5 d
      refine ⟨by omega, s, ?_, s2⟩
      have s1 : rn L xs (d + 1) 395 0 [.ref 123, .int 5] [] τ = some (.inl none, s) := s1
      rw [e404_162 (d + 1), c5, e1, h119, c2_ne (by omega) (by omega) (by omega) (by omega), c_f (by omega), bV_ok s1]
    · left
      refine ⟨by omega, ?_⟩
      have hw : ∀ y : Nat, y = max pk (U + (f + 1)) → ∃ τ' v6', rn L xs (d + 2) 404 212 [.ref 123, .int x1, .int (i32 ((f + 1 : Nat) : Int)), .int (i32 (k : Int)), .int x4, .int (i32 (o : Int)), .int (i32 ((X.hp o).gi : Int)), v7] [.int (i32 (y : Int)), .ref 123] τ = rn L xs (d + 2) 404 268 [.ref 123, .int x1, .int (i32 ((f + 1 : Nat) : Int)), .int (i32 ((k + 1 : Nat) : Int)), .int x4, .int (i32 (o : Int)), v6', .int 0] [] τ' ∧ MAl (uq A.1 (X.hp o).gi ((A.1 (X.hp o).gi).1 + 1, (A.1 (X.hp o).gi).2.1 + 1, szO (X.hp o)), f + 1) nr τ' ∧ MCn (st, cl, cp, U, max pk (U + (f + 1))) B τ' ∧ frM [222, 223, 224] [128] τ τ' := fun y hy => by
        have := fin (wr (wr (wr τ 123 128 (i32 (y : Int))) 223 (X.hp o).gi (i32 (((A.1 (X.hp o).gi).2.1 + 1 : Nat) : Int))) 224 (X.hp o).gi 0) (0, (A.1 (X.hp o).gi).2.1 + 1, 0) (f + 1) (((frM_w rfl).trans (frM_wr rfl (by decide))).trans (frM_wr rfl (by decide))) (by rw [wr_self]; rfl) (Nat.zero_le _) (by rw [wr_nek (by decide), wr_self]) (fun r hr => ⟨by rw [wr_nek (by decide), wr_nei hr, wr_nek (by decide)], by rw [wr_nei hr, wr_nek (by decide), wr_nek (by decide)]⟩) (by rw [wr_nek (by decide), wr_nek (by decide), wr_self, hy])
        obtain ⟨τ', v6', t1, t2, t3, t4⟩ := this
        refine ⟨τ', v6', ?_, ?_, t3, t4⟩
        · rw [e404_212, c_in (by omega) (by omega) (by omega), c_in (by omega) (by omega) (by omega), c_in (by omega) (by omega) (by omega), i32_ixn (by omega), a2, i32_up]
          exact t1
        · rw [show szO (X.hp o) = 0 + szO (X.hp o) by omega]; exact t2
      rw [e404_162 (d + 1), c5, e1, h119, c2_ne (by omega) (by omega) (by omega) (by omega), c_t (by omega), e404_182, c5, i32_up, e2, c6, c2_le (by omega) (by omega) (by omega) (by omega)]
      by_cases r : U + (f + 1) ≤ max pk (U + f)
      · rw [c_t (by omega), e404_208, c6]
        exact hw _ (by omega)
      · rw [c_f (by omega)]
        exact hw _ (by omega)
  have hd : rn L xs (d + 2) 404 121 [.ref 123, .int x1, .int (i32 (f : Int)), .int (i32 (k : Int)), .int x4, .int (i32 (o : Int)), v6, v7] [] τ = (if (A.1 (X.hp o).gi).2.1 = 0 ∨ wd < (A.1 (X.hp o).gi).2.2 + szO (X.hp o) then rn L xs (d + 2) 404 162 [.ref 123, .int x1, .int (i32 (f : Int)), .int (i32 (k : Int)), .int x4, .int (i32 (o : Int)), .int (i32 ((X.hp o).gi : Int)), v7] [] τ else rn L xs (d + 2) 404 234 [.ref 123, .int x1, .int (i32 (f : Int)), .int (i32 (k : Int)), .int x4, .int (i32 (o : Int)), .int (i32 ((X.hp o).gi : Int)), v7] [] τ) := by
    rw [e404_121, c_in (by omega) (by omega) (by omega), i32_ixn (by omega), o3, c_in (by omega) (by omega) (by omega), i32_ixn (by omega), a2, c1_eq (by omega) (by omega)]
    by_cases z : (A.1 (X.hp o).gi).2.1 = 0
    · rw [c_t (by omega), if_pos (.inl z)]
    · rw [c_f (by omega), c_in (by omega) (by omega) (by omega), c_in (by omega) (by omega) (by omega), a3, o2, i32_add, show (((A.1 (X.hp o).gi).2.2 : Int) + (szO (X.hp o) : Int)) = (((A.1 (X.hp o).gi).2.2 + szO (X.hp o) : Nat) : Int) by omega, h120, c2_le (by omega) (by omega) (by omega) (by omega)]
      by_cases y : (A.1 (X.hp o).gi).2.2 + szO (X.hp o) ≤ wd
      · rw [c_t (by omega), if_neg (by omega)]
      · rw [c_f (by omega), if_pos (by omega)]
  rw [hd]
  unfold pgA
  by_cases c : (A.1 (X.hp o).gi).2.1 = 0 ∨ wd < (A.1 (X.hp o).gi).2.2 + szO (X.hp o)
  · rw [if_pos c, if_pos c, hf]
    exact pg c
  · rw [if_neg c, if_neg c, hf]
    left
    refine ⟨hU, ?_⟩
    exact fin τ (A.1 (X.hp o).gi) f frM.refl a3 b3 a2 (fun _ _ => ⟨rfl, rfl⟩) c6
end MSCAN
