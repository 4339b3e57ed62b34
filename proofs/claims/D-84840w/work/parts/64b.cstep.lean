/-! RUNS, COMPONENT: one word after the other; the stack; regions -/
section CSTEP
variable {L : Nat} {xs : Nat → Int32} {σ σ' σ0 σ1 : tvS} {D : pgD} {rg : rgD} {cd : cdD} {X X' : dyD} {n n' nr wd pgs cs a i st ev B no κ : Nat} {pl : Nat → Nat} {fl : List Nat} {s : cSt} {pg : Nat → List Nat} {fn : Nat → Nat × Nat} {bk : Nat → Nat} {x1 x2 : Int32} {v : vaL} {sv : Nat → vaL}
/-- a word that is no step is performed -/
theorem go_one (hR : RSc D rg cd cs σ) (ha : rd σ 117 8 = i32 (a : Int)) (hl : a < cs) (hop : rd σ 95 a = i32 (κ : Int)) (hκ : 1 ≤ κ ∧ κ < 28) (d : Nat) (hp : rn L xs (d + 2) 262 (t262 κ) [.ref 117, .int (i32 (κ : Int)), jv, jv] [] (wr σ 117 8 (i32 ((a + 1 : Nat) : Int))) = some (.inl none, σ')) :
    rn L xs (d + 3) 260 4 [.ref 117, .int x1, .int x2, .int 1] [] σ = rn L xs (d + 3) 260 84 [.ref 117, .int x1, .int x2, .int 1] [] σ' := by
  have h1 := hR.1
  have p1 : rn L xs (d + 2) 212 0 [.ref 94, .int (i32 (a : Int))] [] σ = some (.inl (some (.int (i32 (κ : Int)))), σ) := by
    rw [e212_0, c_in (by omega) (by show (a : Int) < (ln σ 95 : Int); omega) (by omega), i32_ixn (by omega), hop]
  have p2 := next_c (L := L) (xs := xs) hR ha hl d
  rw [hop] at p2
  have p3 : rn L xs (d + 2) 262 0 [.ref 117, .int (i32 (κ : Int)), jv, jv] [] (wr σ 117 8 (i32 ((a + 1 : Nat) : Int))) = some (.inl none, σ') := by
    rw [e262_0, swk_of (sw262 κ hκ.2 hκ.1)]; exact hp
  rw [e260_4 (d + 2), show pv_c1 .eq (1 : Int32) = false from rfl, cond_false, ha, bI_ok p1, c1_eq (by omega) (by omega), c_f (by omega), bI_ok p2, bV_ok p3]
theorem go_more (h : rd σ 117 5 = 1) (d : Nat) : rn L xs (d + 1) 260 84 [.ref 117, .int x1, .int x2, .int 1] [] σ = rn L xs (d + 1) 260 4 [.ref 117, .int x1, .int x2, .int 1] [] σ := by
  rw [e260_84, show pv_c1 .eq (1 : Int32) = false from rfl, cond_false, h, show pv_c2 .ne (1 : Int32) 1 = false from rfl, cond_false, e260_101]
theorem go_over {c : Nat} (h : rd σ 117 5 = i32 (c : Int)) (hc : c ≠ 1 ∧ c < 10) (d : Nat) : rn L xs (d + 1) 260 84 [.ref 117, .int x1, .int x2, .int 1] [] σ = some (.inl (some (.int x2)), σ) := by
  rw [e260_84, show pv_c1 .eq (1 : Int32) = false from rfl, cond_false, h, show (1 : Int32) = i32 1 from rfl, c2_ne (by omega) (by omega) (by omega) (by omega), c_t (by omega), e260_100, e260_101, e260_4, show pv_c1 .eq (0 : Int32) = true from rfl, cond_true, e260_105]
/-- the stack is other -/
theorem CPs.stack (h : CPs D X n nr wd pgs s pl pg fl σ) (hS : CSt n' X'.sv pl σ') (w : frW [100, 101, 102, 117] σ σ') (e1 : X'.hp = X.hp) (e2 : X'.no = X.no) (hR : ∀ o, RCO X' n' o → RCO X n o) : CPs D X' n' nr wd pgs s pl pg fl σ' := by
  obtain ⟨h1, h2, h3, h4⟩ := h
  refine ⟨h1.fr (fun q _ => w.1 103 rfl q) (fun j hj q => by rcases hj with e | e | e | e | e | e | e <;> rw [e] <;> exact w.1 _ rfl q), hS, ⟨fun o ho => ?_, fun o o' ho ho' hne => ?_⟩, by rw [e2]; exact h4⟩
  · obtain ⟨g1, g2⟩ := h3.1 o (hR o ho)
    rw [e1]
    exact ⟨g1, g2.cong (fun j _ => ⟨w.1 104 rfl _, w.1 105 rfl _⟩) (fun _ _ _ => rfl)⟩
  · rw [e1]; exact h3.2 o o' (hR o ho) (hR o' ho') hne
/-- one value more -/
theorem vpush_c (hS : CSt n sv pl σ) (hn : n < 4000) (hv : v.1 ≤ 2) (d : Nat) : ∃ σ', rn L xs (d + 2) 263 0 [.ref 117, .int (cwd pl v), .int (i32 (v.1 : Int))] [] σ = some (.inl none, σ') ∧ CSt (n + 1) (uq sv n v) pl σ' ∧ frW [100, 101, 102] σ σ' := by
  obtain ⟨s1, s2, s3⟩ := hS
  have p1 : rn L xs (d + 1) 221 0 [.ref 100] [] σ = some (.inl (some (.int 0)), σ) := by
    rw [e221_0, s1, show (4000 : Int32) = i32 4000 from rfl, c2_ne (by omega) (by omega) (by omega) (by omega), c_t (by omega), e221_14, e221_15, b01_0, cond_true]
  obtain ⟨σ', e'⟩ : ∃ σ', σ' = wr (wr (wr σ 101 n (cwd pl v)) 102 n (i32 (v.1 : Int))) 100 2 (i32 ((n + 1 : Nat) : Int)) := ⟨_, rfl⟩
  have p2 : rn L xs (d + 1) 222 0 [.ref 100, .int (cwd pl v), .int (i32 (v.1 : Int))] [] σ = some (.inl none, σ') := by
    rw [e222_0, s1, c_in (by omega) (by omega) (by omega), c_in (by omega) (by omega) (by omega), i32_ixn (by omega), nar8 hv, i32_up, ← e']
  refine ⟨σ', ?_, ⟨by rw [e', wr_self], by omega, fun k hk => ?_⟩, by rw [e']; exact ((frW_wr rfl).trans (frW_wr rfl)).trans (frW_wr rfl)⟩
  · rw [e263_0 (d + 1), bI_ok p1, show pv_c1 .eq (0 : Int32) = true from rfl, cond_true, e263_18 (d + 1), bV_ok p2, e263_27]
  · by_cases e : k = n
    · subst e
      rw [uq_self, e', wr_nek (by decide), wr_nek (by decide), wr_self, wr_nek (by decide), wr_self]; exact ⟨rfl, rfl, hv⟩
    · rw [uq_ne e, e', wr_nek (by decide), wr_nek (by decide), wr_nei e, wr_nek (by decide), wr_nei e, wr_nek (by decide)]; exact s3 k (by omega)
/-- it is full -/
theorem vpush_full (hS : CSt n sv pl σ) (hn : n = 4000) (y1 y2 : Int32) (d : Nat) (he : ∃ σ', rn L xs (d + 2) 252 0 [.ref 117, .int (i32 ((4 : Nat) : Int))] [] σ = some (.inl none, σ') ∧ CVR st 4 s B no pgs wd ev σ' ∧ frW [100, 103, 106, 117] σ σ') : ∃ σ', rn L xs (d + 3) 263 0 [.ref 117, .int y1, .int y2] [] σ = some (.inl none, σ') ∧ CVR st 4 s B no pgs wd ev σ' ∧ frW [100, 103, 106, 117] σ σ' := by
  obtain ⟨σ', h1, h2⟩ := he
  obtain ⟨s1, s2, s3⟩ := hS
  have p1 : rn L xs (d + 2) 221 0 [.ref 100] [] σ = some (.inl (some (.int 1)), σ) := by
    rw [e221_0, s1, show (4000 : Int32) = i32 4000 from rfl, c2_ne (by omega) (by omega) (by omega) (by omega), c_f (by omega), e221_15, b01_1, cond_true]
  have h1 : rn L xs (d + 2) 252 0 [.ref 117, .int 4] [] σ = some (.inl none, σ') := h1
  refine ⟨σ', ?_, h2⟩
  rw [e263_0 (d + 2), bI_ok p1, show pv_c1 .eq (1 : Int32) = false from rfl, cond_false, bV_ok h1, e263_27]
theorem top_c (hS : CSt n sv pl σ) (hn : 1 ≤ n) (d : Nat) : rn L xs (d + 2) 268 0 [.ref 117] [] σ = some (.inl (some (.int (i32 ((n - 1 : Nat) : Int)))), σ) := by
  have p1 : rn L xs (d + 1) 217 0 [.ref 100] [] σ = some (.inl (some (.int (i32 (n : Int)))), σ) := by rw [e217_0, hS.1]
  have en1 : i32 (n : Int) - 1 = i32 ((n - 1 : Nat) : Int) := by rw [show (1 : Int32) = i32 1 from rfl, i32_sub]; congr 1; omega
  rw [e268_0 (d + 1), bI_ok p1, en1]
theorem val_c {k : Nat} (hS : CSt n sv pl σ) (hk : k < n) (d : Nat) : rn L xs (d + 1) 219 0 [.ref 100, .int (i32 (k : Int))] [] σ = some (.inl (some (.int (cwd pl (sv k)))), σ) := by
  have := hS.2.1
  rw [e219_0, c_in (by omega) (by omega) (by omega), i32_ixn (by omega), (hS.2.2 k hk).1]
theorem sort_c {k : Nat} (hS : CSt n sv pl σ) (hk : k < n) (d : Nat) : rn L xs (d + 1) 218 0 [.ref 100, .int (i32 (k : Int))] [] σ = some (.inl (some (.int (i32 ((sv k).1 : Int)))), σ) := by
  have := hS.2.1
  rw [e218_0, c_in (by omega) (by omega) (by omega), i32_ixn (by omega), (hS.2.2 k hk).2.1]
theorem drop_c {k : Nat} (hS : CSt n sv pl σ) (hk : k ≤ n) (d : Nat) : ∃ σ', rn L xs (d + 1) 223 0 [.ref 100, .int (i32 (k : Int))] [] σ = some (.inl none, σ') ∧ CSt (n - k) sv pl σ' ∧ frW [100] σ σ' := by
  have h0 := hS.2.1
  refine ⟨wr σ 100 2 (i32 ((n - k : Nat) : Int)), ?_, ⟨wr_self _ _ _ _, by omega, fun q hq => by rw [wr_nek (by decide), wr_nek (by decide)]; exact hS.2.2 q (by omega)⟩, frW_wr rfl⟩
  have e : i32 (n : Int) - i32 (k : Int) = i32 ((n - k : Nat) : Int) := by rw [i32_sub]; congr 1; omega
  rw [e223_0, hS.1, e]
/-- a value is set -/
theorem sset_c {k : Nat} (hS : CSt n sv pl σ) (hk : k < n) (hv : v.1 ≤ 2) (d : Nat) : ∃ σ', rn L xs (d + 1) 220 0 [.ref 100, .int (i32 (k : Int)), .int (cwd pl v), .int (i32 (v.1 : Int))] [] σ = some (.inl none, σ') ∧ CSt n (uq sv k v) pl σ' ∧ frW [101, 102] σ σ' := by
  obtain ⟨s1, s2, s3⟩ := hS
  refine ⟨wr (wr σ 101 k (cwd pl v)) 102 k (i32 (v.1 : Int)), ?_, ⟨by rw [wr_nek (by decide), wr_nek (by decide)]; exact s1, s2, fun q hq => ?_⟩, (frW_wr rfl).trans (frW_wr rfl)⟩
  · rw [e220_0, c_in (by omega) (by omega) (by omega), c_in (by omega) (by omega) (by omega), i32_ixn (by omega), nar8 hv]
  · by_cases e : q = k
    · subst e; rw [uq_self, wr_nek (by decide), wr_self, wr_self]; exact ⟨rfl, rfl, hv⟩
    · rw [uq_ne e, wr_nek (by decide), wr_nei e, wr_nei e, wr_nek (by decide)]; exact s3 q hq
/-- so many go below the latest -/
theorem slide_c {k : Nat} (hS : CSt n sv pl σ) (hk : k + 1 ≤ n) (d : Nat) : ∃ σ', rn L xs (d + 2) 224 0 [.ref 100, .int (i32 (k : Int))] [] σ = some (.inl none, σ') ∧ CSt (n - k) (uq sv (n - 1 - k) (sv (n - 1))) pl σ' ∧ frW [100, 101, 102] σ σ' := by
  have h0 := hS.2.1
  obtain ⟨σ1, a1, a2, a3⟩ := sset_c (L := L) (xs := xs) (k := n - 1 - k) (v := sv (n - 1)) hS (by omega) (hS.2.2 (n - 1) (by omega)).2.2 d
  have en1 : i32 (n : Int) - 1 = i32 ((n - 1 : Nat) : Int) := by rw [show (1 : Int32) = i32 1 from rfl, i32_sub]; congr 1; omega
  have e2 : i32 ((n - 1 : Nat) : Int) - i32 (k : Int) = i32 ((n - 1 - k : Nat) : Int) := by rw [i32_sub]; congr 1; omega
  have e3 : i32 (n : Int) - i32 (k : Int) = i32 ((n - k : Nat) : Int) := by rw [i32_sub]; congr 1; omega
  refine ⟨wr σ1 100 2 (i32 ((n - k : Nat) : Int)), ?_, ⟨wr_self _ _ _ _, by omega, fun q hq => by rw [wr_nek (by decide), wr_nek (by decide)]; exact a2.2.2 q (by omega)⟩, (a3.sub rfl).trans (frW_wr rfl)⟩
  rw [e224_0 (d + 1), hS.1, en1, c_in (by omega) (by omega) (by omega), c_in (by omega) (by omega) (by omega), i32_ixn (by omega), e2, (hS.2.2 (n - 1) (by omega)).1, (hS.2.2 (n - 1) (by omega)).2.1, bV_ok a1, a2.1, e3]
end CSTEP
