/-! runs of String.length, String.charAt, Arrays.copyOf -/
section STR
variable {L : Nat} {xs : Nat → Int32}
theorem xa_at (j : Nat) : pv_xa (PP L xs) (j + 1) = xaL.getD j (11, 0, fun _ => 0) := by
  show (if j + 1 = 0 then (0, L, xs) else xaL.getD (j + 1 - 1) (11, 0, fun _ => 0)) = _
  rw [if_neg (Nat.succ_ne_zero j)]
  rfl
theorem xa_tag : ∀ j, j < 23 → (xaL.getD j (11, 0, fun _ => 0)).1 = 1 := by decide
theorem xa_t1 {j : UInt32} (hj : j.toNat < 23) : (pv_xa (PP L xs) (j.toNat + 1)).1 = 1 := by rw [xa_at]; exact xa_tag _ hj
theorem xa_len (j : Nat) : (pv_xa (PP L xs) (j + 1)).2.1 = slen j := by rw [xa_at]; rfl
theorem xa_chr (j i : Nat) : (pv_xa (PP L xs) (j + 1)).2.2 i = schr j i := by rw [xa_at]; rfl
theorem schr_ok : ∀ j, j < 23 → ∀ i, i < slen j → ((schr j i &&& 255).toUInt32 % 65536).toInt32 = schr j i := by decide +kernel
theorem schr_nar0 : ∀ j, j < 23 → ∀ i, i < slen j → (schr j i).toUInt32.toUInt16.toUInt32.toInt32 = schr j i := by decide +kernel
theorem schr_nar (j : Nat) (hj : j < 23) (i : Nat) (hi : i < slen j) : narrow .char (.int (schr j i)) = .int (schr j i) := by
  show Value.int ((schr j i).toUInt32.toUInt16.toUInt32.toInt32) = _
  rw [schr_nar0 j hj i hi]
theorem str_recv {j : UInt32} (hj : j.toNat < 23) (h : pvH) : pv_recv (PP L xs) 90 (some (.float j)) h = true := decide_eq_true ⟨rfl, xa_t1 hj⟩
section
variable {M pc a len r3 : Nat} {ls : pvL} {st : List Value} {h : pvH} {j : UInt32}
theorem st_gf0 (hi : insP M pc = some (.getfield a, len, 90, 0, r3)) (hj : j.toNat < 23) : pv_step (PP L xs) M pc ls (.float j :: st) h = some (.inl (pc + 3, ls, .retAddr (j.toNat + 1) :: st, h)) := by
  unfold pv_step
  rw [show pv_ins (PP L xs) M pc = _ from hi]
  show pv_nx _ _ _ (if 90 = 90 ∧ (pv_xa (PP L xs) (j.toNat + 1)).1 = 1 then _ else none) = _
  rw [if_pos ⟨rfl, xa_t1 hj⟩]
  rfl
theorem st_gf1 (hi : insP M pc = some (.getfield a, len, 90, 1, r3)) (hj : j.toNat < 23) : pv_step (PP L xs) M pc ls (.float j :: st) h = some (.inl (pc + 3, ls, .int 0 :: st, h)) := by
  unfold pv_step
  rw [show pv_ins (PP L xs) M pc = _ from hi]
  show pv_nx _ _ _ (if 90 = 90 ∧ (pv_xa (PP L xs) (j.toNat + 1)).1 = 1 then _ else none) = _
  rw [if_pos ⟨rfl, xa_t1 hj⟩]
  rfl
theorem st_al {r1 r2 : Nat} (hi : insP M pc = some (.arraylength, len, r1, r2, r3)) (hj : j.toNat < 23) : pv_step (PP L xs) M pc ls (.retAddr (j.toNat + 1) :: st) h = some (.inl (pc + 1, ls, .int (Int32.ofNat (slen j.toNat)) :: st, h)) := by
  unfold pv_step
  rw [show pv_ins (PP L xs) M pc = _ from hi]
  show (if (pv_xa (PP L xs) (j.toNat + 1)).1 < 10 then _ else none) = _
  rw [if_pos (by rw [xa_t1 hj]; decide), xa_len]
theorem st_iv {M' n : Nat} (hi : insP M pc = some (.invokevirtual a, len, M', n, 90)) (hj : j.toNat < 23) (hr : st[n - 1]? = some (.float j)) (hn : 1 ≤ n) (h1 : n ≤ st.length) (h2 : ((st.drop n).map Value.category).sum ≤ 24) (h3 : ((st.take n).map Value.category).sum ≤ (miP M').2.2.1) :
    pv_step (PP L xs) M pc ls st h = some (.inr (.inl (M', (st.take n).reverse, st.drop n, pc + 3, h))) := by
  unfold pv_step
  rw [show pv_ins (PP L xs) M pc = _ from hi]
  show (if pv_recv (PP L xs) 90 st[n - 1]? h = true ∧ 1 ≤ n then pv_call (PP L xs) M' n (pc + 3) st h else none) = _
  rw [hr, if_pos ⟨str_recv hj h, hn⟩]
  unfold pv_call
  rw [if_pos ⟨h1, h2, h3⟩]
theorem st_is {M' n : Nat} (hi : insP M pc = some (.invokestatic a, len, M', n, 0)) (h1 : n ≤ st.length) (h2 : ((st.drop n).map Value.category).sum ≤ 24) (h3 : ((st.take n).map Value.category).sum ≤ (miP M').2.2.1) :
    pv_step (PP L xs) M pc ls st h = some (.inr (.inl (M', (st.take n).reverse, st.drop n, pc + 3, h))) := by
  unfold pv_step
  rw [show pv_ins (PP L xs) M pc = _ from hi]
  show (if 0 = 0 then pv_call (PP L xs) M' n (pc + 3) st h else _) = _
  rw [if_pos rfl]
  unfold pv_call
  rw [if_pos ⟨h1, h2, h3⟩]
theorem st_ret {r1 r2 : Nat} {x : Int32} {ty : FieldType} (hi : insP M pc = some (.ireturn, len, r1, r2, r3)) (hm : (miP M).2.1 = some ty) (hx : narrow ty (.int x) = .int x ∧ (ty = .int ∨ ty = .boolean ∨ ty = .char ∨ ty = .byte)) :
    pv_step (PP L xs) M pc ls [.int x] h = some (.inr (.inr (.inl (some (.int x)), h))) := by
  unfold pv_step
  rw [show pv_ins (PP L xs) M pc = _ from hi]
  show pv_ret (PP L xs) M [.int x] h = _
  unfold pv_ret
  rw [show (pv_mi (PP L xs) M).2.1 = some ty from hm]
  show (if _ then _ else _) = _
  rw [if_pos hx]
end
theorem run432 {d : Nat} {j : UInt32} (hj : j.toNat < 23) (h : pvH) : pvX (PP L xs) d 432 0 (lv_args 0 [.float j]) [] h (.inl (some (.int 0)), h) := by
  refine pvX.step (pc' := 3) (ls' := lv_args 0 [.float j]) (st' := [.int 1]) (h' := h) rfl ?_
  refine pvX.step (pc' := 6) (ls' := lv_args 0 [.float j]) (st' := []) (h' := h) rfl ?_
  refine pvX.step (pc' := 7) (ls' := lv_args 0 [.float j]) (st' := [.float j]) (h' := h) rfl ?_
  refine pvX.step (st_gf1 (a := 15) (len := 3) (r3 := 0) rfl hj) ?_
  refine pvX.step (pc' := 14) (ls' := lv_args 0 [.float j]) (st' := [.int 0]) (h' := h) rfl ?_
  exact pvX.ret (st_ret (len := 1) (r1 := 0) (r2 := 0) (r3 := 0) (ty := .byte) rfl rfl (by decide))
theorem run434 {d : Nat} {j : UInt32} (hj : j.toNat < 23) (h : pvH) : pvX (PP L xs) d 434 0 (lv_args 0 [.float j]) [] h (.inl (some (.int 1)), h) := by
  refine pvX.step (pc' := 3) (ls' := lv_args 0 [.float j]) (st' := [.int 1]) (h' := h) rfl ?_
  refine pvX.step (pc' := 6) (ls' := lv_args 0 [.float j]) (st' := []) (h' := h) rfl ?_
  refine pvX.step (pc' := 7) (ls' := lv_args 0 [.float j]) (st' := [.float j]) (h' := h) rfl ?_
  refine pvX.step (st_gf1 (a := 15) (len := 3) (r3 := 0) rfl hj) ?_
  refine pvX.step (pc' := 13) (ls' := lv_args 0 [.float j]) (st' := []) (h' := h) rfl ?_
  refine pvX.step (pc' := 14) (ls' := lv_args 0 [.float j]) (st' := [.int 1]) (h' := h) rfl ?_
  refine pvX.step (pc' := 18) (ls' := lv_args 0 [.float j]) (st' := [.int 1]) (h' := h) rfl ?_
  exact pvX.ret (st_ret (len := 1) (r1 := 0) (r2 := 0) (r3 := 0) (ty := .boolean) rfl rfl (by decide))
theorem run431 {d : Nat} {j : UInt32} (hj : j.toNat < 23) (h : pvH) : pvX (PP L xs) (d + 1) 431 0 (lv_args 0 [.float j]) [] h (.inl (some (.int (Int32.ofNat (slen j.toNat)))), h) := by
  refine pvX.step (pc' := 1) (ls' := lv_args 0 [.float j]) (st' := [.float j]) (h' := h) rfl ?_
  refine pvX.step (st_gf0 (a := 9) (len := 3) (r3 := 0) rfl hj) ?_
  refine pvX.step (st_al (len := 1) (r1 := 0) (r2 := 0) (r3 := 0) rfl hj) ?_
  refine pvX.step (pc' := 6) (ls' := lv_args 0 [.float j]) (st' := [.float j, .int (Int32.ofNat (slen j.toNat))]) (h' := h) rfl ?_
  refine pvX.call (st_iv (a := 335) (len := 3) (M' := 432) (n := 1) rfl hj rfl (by decide) (by simp) (Nat.le_of_ble_eq_true rfl) (Nat.le_of_ble_eq_true rfl)) (run432 hj h) ?_
  refine pvX.step (pc' := 10) (ls' := lv_args 0 [.float j]) (st' := [.int (Int32.ofNat (slen j.toNat))]) (h' := h) ?_ ?_
  · have e : (Int32.ofNat (slen j.toNat)) >>> ((0 : Int32) &&& 31) = Int32.ofNat (slen j.toNat) := by
      rw [show ((0 : Int32) &&& 31) = 0 from rfl]; simp
    have : pv_step (PP L xs) 431 9 (lv_args 0 [.float j]) [.int 0, .int (Int32.ofNat (slen j.toNat))] h = some (.inl (10, lv_args 0 [.float j], [.int ((Int32.ofNat (slen j.toNat)) >>> ((0 : Int32) &&& 31))], h)) := rfl
    rw [e] at this
    exact this
  · exact pvX.ret (st_ret (len := 1) (r1 := 0) (r2 := 0) (r3 := 0) (ty := .int) rfl rfl (by simp [narrow]))
theorem run437 {d : Nat} {i n : Int32} (h0 : ¬ i < 0) (h1 : i < n) (h : pvH) : pvX (PP L xs) d 437 0 (lv_args 0 [.int i, .int n, .retAddr 99]) [] h (.inl (some (.int i)), h) := by
  refine pvX.step (pc' := 1) (ls' := lv_args 0 [.int i, .int n, .retAddr 99]) (st' := [.int i]) (h' := h) rfl ?_
  refine pvX.step (pc' := 4) (ls' := lv_args 0 [.int i, .int n, .retAddr 99]) (st' := []) (h' := h) ?_ ?_
  · have : pv_step (PP L xs) 437 1 (lv_args 0 [.int i, .int n, .retAddr 99]) [.int i] h = some (.inl (if pv_c1 .lt i = true then 9 else 4, lv_args 0 [.int i, .int n, .retAddr 99], [], h)) := rfl
    rw [if_neg (by unfold pv_c1; simpa using h0)] at this
    exact this
  refine pvX.step (pc' := 5) (ls' := lv_args 0 [.int i, .int n, .retAddr 99]) (st' := [.int i]) (h' := h) rfl ?_
  refine pvX.step (pc' := 6) (ls' := lv_args 0 [.int i, .int n, .retAddr 99]) (st' := [.int n, .int i]) (h' := h) rfl ?_
  refine pvX.step (pc' := 16) (ls' := lv_args 0 [.int i, .int n, .retAddr 99]) (st' := []) (h' := h) ?_ ?_
  · have : pv_step (PP L xs) 437 6 (lv_args 0 [.int i, .int n, .retAddr 99]) [.int n, .int i] h = some (.inl (if pv_c2 .lt i n = true then 16 else 9, lv_args 0 [.int i, .int n, .retAddr 99], [], h)) := rfl
    rw [if_pos (by unfold pv_c2; simpa using h1)] at this
    exact this
  refine pvX.step (pc' := 17) (ls' := lv_args 0 [.int i, .int n, .retAddr 99]) (st' := [.int i]) (h' := h) rfl ?_
  exact pvX.ret (st_ret (len := 1) (r1 := 0) (r2 := 0) (r3 := 0) (ty := .int) rfl rfl (by simp [narrow]))
theorem run435 {d : Nat} {i n : Int32} (h0 : ¬ i < 0) (h1 : i < n) (h : pvH) : pvX (PP L xs) (d + 1) 435 0 (lv_args 0 [.int i, .int n]) [] h (.inl none, h) := by
  refine pvX.step (pc' := 1) (ls' := lv_args 0 [.int i, .int n]) (st' := [.int i]) (h' := h) rfl ?_
  refine pvX.step (pc' := 2) (ls' := lv_args 0 [.int i, .int n]) (st' := [.int n, .int i]) (h' := h) rfl ?_
  refine pvX.step (pc' := 5) (ls' := lv_args 0 [.int i, .int n]) (st' := [.retAddr 99, .int n, .int i]) (h' := h) rfl ?_
  refine pvX.call (st_is (a := 1059) (len := 3) (M' := 437) (n := 3) rfl (by simp) (Nat.le_of_ble_eq_true rfl) (Nat.le_of_ble_eq_true rfl)) (run437 h0 h1 h) ?_
  refine pvX.step (pc' := 9) (ls' := lv_args 0 [.int i, .int n]) (st' := []) (h' := h) rfl ?_
  exact pvX.ret rfl
theorem in_lt32 {i : Int32} {n : Nat} (hn : n < 2147483648) (hi : pv_in i n = true) : ¬ i < 0 ∧ i < Int32.ofNat n := by
  have h1 : ¬ (i < 0 ∨ n ≤ i.toNatClampNeg) := of_decide_eq_true hi
  have h2 : ¬ i < 0 := fun h => h1 (Or.inl h)
  have h3 : i.toNatClampNeg < n := Nat.not_le.mp fun h => h1 (Or.inr h)
  refine ⟨h2, ?_⟩
  rw [Int32.lt_iff_toInt_lt] at h2 ⊢
  rw [Int32.toInt_ofNat_of_lt (by omega)]
  have : i.toInt.toNat < n := h3
  have h0 : (0 : Int32).toInt = 0 := rfl
  omega
theorem slen_lt : ∀ j, j < 23 → slen j < 1000 := by decide
theorem run436 {d : Nat} {j : UInt32} {i : Int32} (hj : j.toNat < 23) (hi : pv_in i (slen j.toNat) = true) (h : pvH) : pvX (PP L xs) (d + 2) 436 0 (lv_args 0 [.retAddr (j.toNat + 1), .int i]) [] h (.inl (some (.int (schr j.toNat (ix i)))), h) := by
  have hl := slen_lt _ hj
  obtain ⟨h0, h1⟩ := in_lt32 (by omega) hi
  refine pvX.step (pc' := 1) (ls' := lv_args 0 [.retAddr (j.toNat + 1), .int i]) (st' := [.int i]) (h' := h) rfl ?_
  refine pvX.step (pc' := 2) (ls' := lv_args 0 [.retAddr (j.toNat + 1), .int i]) (st' := [.retAddr (j.toNat + 1), .int i]) (h' := h) rfl ?_
  refine pvX.step (st_al (len := 1) (r1 := 0) (r2 := 0) (r3 := 0) rfl hj) ?_
  refine pvX.call (st_is (a := 9) (len := 3) (M' := 435) (n := 2) rfl (by simp) (Nat.le_of_ble_eq_true rfl) (Nat.le_of_ble_eq_true rfl)) (run435 h0 h1 h) ?_
  refine pvX.step (pc' := 7) (ls' := lv_args 0 [.retAddr (j.toNat + 1), .int i]) (st' := [.retAddr (j.toNat + 1)]) (h' := h) rfl ?_
  refine pvX.step (pc' := 8) (ls' := lv_args 0 [.retAddr (j.toNat + 1), .int i]) (st' := [.int i, .retAddr (j.toNat + 1)]) (h' := h) rfl ?_
  refine pvX.step (pc' := 9) (ls' := lv_args 0 [.retAddr (j.toNat + 1), .int i]) (st' := [.int (schr j.toNat (ix i))]) (h' := h) ?_ ?_
  · have : pv_step (PP L xs) 436 8 (lv_args 0 [.retAddr (j.toNat + 1), .int i]) [.int i, .retAddr (j.toNat + 1)] h = pv_nx 9 (lv_args 0 [.retAddr (j.toNat + 1), .int i]) h (if (pv_xa (PP L xs) (j.toNat + 1)).1 = 1 ∧ pv_in i (pv_xa (PP L xs) (j.toNat + 1)).2.1 = true then some [.int ((pv_xa (PP L xs) (j.toNat + 1)).2.2 (ix i))] else none) := rfl
    rw [if_pos ⟨xa_t1 hj, by rw [xa_len]; exact hi⟩, xa_chr] at this
    exact this
  refine pvX.step (pc' := 12) (ls' := lv_args 0 [.retAddr (j.toNat + 1), .int i]) (st' := [.int 255, .int (schr j.toNat (ix i))]) (h' := h) rfl ?_
  refine pvX.step (pc' := 13) (ls' := lv_args 0 [.retAddr (j.toNat + 1), .int i]) (st' := [.int (schr j.toNat (ix i) &&& 255)]) (h' := h) rfl ?_
  refine pvX.step (pc' := 14) (ls' := lv_args 0 [.retAddr (j.toNat + 1), .int i]) (st' := [.int (schr j.toNat (ix i))]) (h' := h) ?_ ?_
  · have : pv_step (PP L xs) 436 13 (lv_args 0 [.retAddr (j.toNat + 1), .int i]) [.int (schr j.toNat (ix i) &&& 255)] h = some (.inl (14, lv_args 0 [.retAddr (j.toNat + 1), .int i], [.int (((schr j.toNat (ix i) &&& 255).toUInt32 % 65536).toInt32)], h)) := rfl
    rw [schr_ok _ hj _ (in_lt hi)] at this
    exact this
  exact pvX.ret (st_ret (len := 1) (r1 := 0) (r2 := 0) (r3 := 0) (ty := .char) rfl rfl ⟨schr_nar _ hj _ (in_lt hi), by simp⟩)
theorem run433 {d : Nat} {j : UInt32} {i : Int32} (hj : j.toNat < 23) (hi : pv_in i (slen j.toNat) = true) (h : pvH) : pvX (PP L xs) (d + 3) 433 0 (lv_args 0 [.float j, .int i]) [] h (.inl (some (.int (schr j.toNat (ix i)))), h) := by
  refine pvX.step (pc' := 1) (ls' := lv_args 0 [.float j, .int i]) (st' := [.float j]) (h' := h) rfl ?_
  refine pvX.call (st_iv (a := 492) (len := 3) (M' := 434) (n := 1) rfl hj rfl (by decide) (by simp) (Nat.le_of_ble_eq_true rfl) (Nat.le_of_ble_eq_true rfl)) (run434 hj h) ?_
  refine pvX.step (pc' := 7) (ls' := lv_args 0 [.float j, .int i]) (st' := []) (h' := h) rfl ?_
  refine pvX.step (pc' := 8) (ls' := lv_args 0 [.float j, .int i]) (st' := [.float j]) (h' := h) rfl ?_
  refine pvX.step (st_gf0 (a := 9) (len := 3) (r3 := 0) rfl hj) ?_
  refine pvX.step (pc' := 12) (ls' := lv_args 0 [.float j, .int i]) (st' := [.int i, .retAddr (j.toNat + 1)]) (h' := h) rfl ?_
  refine pvX.call (st_is (a := 495) (len := 3) (M' := 436) (n := 2) rfl (by simp) (Nat.le_of_ble_eq_true rfl) (Nat.le_of_ble_eq_true rfl)) (run436 hj hi h) ?_
  exact pvX.ret (st_ret (len := 1) (r1 := 0) (r2 := 0) (r3 := 0) (ty := .char) rfl rfl ⟨schr_nar _ hj _ (in_lt hi), by simp⟩)
/-- Arrays.copyOf to a longer array -/
theorem run440 {d : Nat} {k N : Nat} {n : Int32} {f : Nat → Value} (h : pvH) (hc : h.1 k = (0, N, f)) (hk : k < h.2.1) (h0 : ¬ n < 0) (h1 : N < ix n) (h2 : ix n ≤ 10000000) (h3 : 1 ≤ h.2.2.1) (h4 : ix n ≤ h.2.2.2) :
    pvX (PP L xs) (d + 1) 440 0 (lv_args 0 [.ref k, .int n]) [] h (.inl (some (.ref h.2.1)), pv_put (pv_new h (0, ix n, fun _ => .int 0)) h.2.1 (0, ix n, va_cpy f (fun _ => .int 0) 0 0 N)) := by
  have hN : (Int32.ofNat N).toInt = N := Int32.toInt_ofNat_of_lt (by omega)
  have hn : n.toInt = (ix n : Int) := by
    have : ¬ n.toInt < 0 := fun q => h0 (Int32.lt_iff_toInt_lt.mpr q)
    show _ = ((n.toInt.toNat : Nat) : Int)
    omega
  refine pvX.step (pc' := 1) (ls' := lv_args 0 [.ref k, .int n]) (st' := [.int n]) (h' := h) rfl ?_
  refine pvX.step (pc' := 2) (ls' := lv_args 0 [.ref k, .int n]) (st' := [.ref k, .int n]) (h' := h) rfl ?_
  refine pvX.step (pc' := 3) (ls' := lv_args 0 [.ref k, .int n]) (st' := [.int (Int32.ofNat N), .int n]) (h' := h) ?_ ?_
  · have : pv_step (PP L xs) 440 2 (lv_args 0 [.ref k, .int n]) [.ref k, .int n] h = if (h.1 k).1 < 5 ∧ k < h.2.1 then some (.inl (3, lv_args 0 [.ref k, .int n], .int (Int32.ofNat (h.1 k).2.1) :: [.int n], h)) else none := rfl
    rw [if_pos ⟨by rw [hc]; show 0 < 5; decide, hk⟩, hc] at this
    exact this
  refine pvX.step (pc' := 14) (ls' := lv_args 0 [.ref k, .int n]) (st' := []) (h' := h) ?_ ?_
  · have : pv_step (PP L xs) 440 3 (lv_args 0 [.ref k, .int n]) [.int (Int32.ofNat N), .int n] h = some (.inl (if pv_c2 .ne n (Int32.ofNat N) = true then 14 else 6, lv_args 0 [.ref k, .int n], [], h)) := rfl
    rw [if_pos (show pv_c2 .ne n (Int32.ofNat N) = true from decide_eq_true (fun e => by have := congrArg Int32.toInt e; omega))] at this
    exact this
  refine pvX.step (pc' := 15) (ls' := lv_args 0 [.ref k, .int n]) (st' := [.int n]) (h' := h) rfl ?_
  refine pvX.step (pc' := 17) (ls' := lv_args 0 [.ref k, .int n]) (st' := [.ref h.2.1]) (h' := pv_new h (0, ix n, fun _ => .int 0)) ?_ ?_
  · have : pv_step (PP L xs) 440 15 (lv_args 0 [.ref k, .int n]) [.int n] h = if ¬ n < 0 ∧ n.toNatClampNeg ≤ 10000000 then (if 1 ≤ h.2.2.1 ∧ n.toNatClampNeg ≤ h.2.2.2 then some (.inl (17, lv_args 0 [.ref k, .int n], .ref h.2.1 :: [], pv_new h (0, n.toNatClampNeg, fun _ => .int 0))) else none) else none := rfl
    rw [if_pos ⟨h0, h2⟩, if_pos ⟨h3, h4⟩] at this
    exact this
  have hne : k ≠ h.2.1 := Nat.ne_of_lt hk
  have hnew : (pv_new h (0, ix n, fun _ => .int 0)).1 h.2.1 = (0, ix n, fun _ => .int 0) := va_up_self _ _ _
  have hold : (pv_new h (0, ix n, fun _ => .int 0)).1 k = (0, N, f) := by
    show va_up h.1 h.2.1 _ k = _
    rw [va_up_ne _ _ hne, hc]
  generalize eH : pv_new h (0, ix n, fun _ => .int 0) = h2' at *
  have hk2 : k < h2'.2.1 := by rw [← eH]; exact Nat.lt_succ_of_lt hk
  have hk3 : h.2.1 < h2'.2.1 := by rw [← eH]; exact Nat.lt_succ_self _
  refine pvX.step (pc' := 18) (ls' := pv_set1 (lv_args 0 [.ref k, .int n]) 2 (.ref h.2.1)) (st' := []) (h' := h2') rfl ?_
  refine pvX.step (pc' := 19) (ls' := pv_set1 (lv_args 0 [.ref k, .int n]) 2 (.ref h.2.1)) (st' := [.ref k]) (h' := h2') rfl ?_
  refine pvX.step (pc' := 20) (ls' := pv_set1 (lv_args 0 [.ref k, .int n]) 2 (.ref h.2.1)) (st' := [.int 0, .ref k]) (h' := h2') rfl ?_
  refine pvX.step (pc' := 21) (ls' := pv_set1 (lv_args 0 [.ref k, .int n]) 2 (.ref h.2.1)) (st' := [.ref h.2.1, .int 0, .ref k]) (h' := h2') rfl ?_
  refine pvX.step (pc' := 22) (ls' := pv_set1 (lv_args 0 [.ref k, .int n]) 2 (.ref h.2.1)) (st' := [.int 0, .ref h.2.1, .int 0, .ref k]) (h' := h2') rfl ?_
  refine pvX.step (pc' := 23) (ls' := pv_set1 (lv_args 0 [.ref k, .int n]) 2 (.ref h.2.1)) (st' := [.ref k, .int 0, .ref h.2.1, .int 0, .ref k]) (h' := h2') rfl ?_
  refine pvX.step (pc' := 24) (ls' := pv_set1 (lv_args 0 [.ref k, .int n]) 2 (.ref h.2.1)) (st' := [.int (Int32.ofNat N), .int 0, .ref h.2.1, .int 0, .ref k]) (h' := h2') ?_ ?_
  · have : pv_step (PP L xs) 440 23 (pv_set1 (lv_args 0 [.ref k, .int n]) 2 (.ref h.2.1)) [.ref k, .int 0, .ref h.2.1, .int 0, .ref k] h2' = if (h2'.1 k).1 < 5 ∧ k < h2'.2.1 then some (.inl (24, (pv_set1 (lv_args 0 [.ref k, .int n]) 2 (.ref h.2.1)), .int (Int32.ofNat (h2'.1 k).2.1) :: [.int 0, .ref h.2.1, .int 0, .ref k], h2')) else none := rfl
    rw [if_pos ⟨by rw [hold]; show 0 < 5; decide, hk2⟩, hold] at this
    exact this
  refine pvX.step (pc' := 25) (ls' := pv_set1 (lv_args 0 [.ref k, .int n]) 2 (.ref h.2.1)) (st' := [.int n, .int (Int32.ofNat N), .int 0, .ref h.2.1, .int 0, .ref k]) (h' := h2') rfl ?_
  refine pvX.call (v := some (.int (Int32.ofNat N))) (h2 := h2') (st_is (a := 304) (len := 3) (M' := 439) (n := 2) rfl (by simp) (Nat.le_of_ble_eq_true rfl) (Nat.le_of_ble_eq_true rfl)) ?_ ?_
  · refine pvX.step (pc' := 1) (ls' := lv_args 0 [.int (Int32.ofNat N), .int n]) (st' := [.int (Int32.ofNat N)]) (h' := h2') rfl ?_
    refine pvX.step (pc' := 2) (ls' := lv_args 0 [.int (Int32.ofNat N), .int n]) (st' := [.int n, .int (Int32.ofNat N)]) (h' := h2') rfl ?_
    refine pvX.step (pc' := 5) (ls' := lv_args 0 [.int (Int32.ofNat N), .int n]) (st' := []) (h' := h2') ?_ ?_
    · have : pv_step (PP L xs) 439 2 (lv_args 0 [.int (Int32.ofNat N), .int n]) [.int n, .int (Int32.ofNat N)] h2' = some (.inl (if pv_c2 .gt (Int32.ofNat N) n = true then 9 else 5, lv_args 0 [.int (Int32.ofNat N), .int n], [], h2')) := rfl
      rw [if_neg (by unfold pv_c2; rw [decide_eq_true_eq, Int32.lt_iff_toInt_lt]; omega)] at this
      exact this
    refine pvX.step (pc' := 6) (ls' := lv_args 0 [.int (Int32.ofNat N), .int n]) (st' := [.int (Int32.ofNat N)]) (h' := h2') rfl ?_
    refine pvX.step (pc' := 10) (ls' := lv_args 0 [.int (Int32.ofNat N), .int n]) (st' := [.int (Int32.ofNat N)]) (h' := h2') rfl ?_
    exact pvX.ret (st_ret (len := 1) (r1 := 0) (r2 := 0) (r3 := 0) (ty := .int) rfl rfl (by simp [narrow]))
  have hcl : (Int32.ofNat N).toNatClampNeg = N := by
    show (Int32.ofNat N).toInt.toNat = N
    omega
  refine pvX.step (pc' := 31) (ls' := pv_set1 (lv_args 0 [.ref k, .int n]) 2 (.ref h.2.1)) (st' := []) (h' := pv_put h2' h.2.1 (0, ix n, va_cpy f (fun _ => .int 0) 0 0 N)) ?_ ?_
  · have : pv_step (PP L xs) 440 28 (pv_set1 (lv_args 0 [.ref k, .int n]) 2 (.ref h.2.1)) [.int (Int32.ofNat N), .int 0, .ref h.2.1, .int 0, .ref k] h2' = pv_stx 31 (pv_set1 (lv_args 0 [.ref k, .int n]) 2 (.ref h.2.1)) (pv_copy [.int (Int32.ofNat N), .int 0, .ref h.2.1, .int 0, .ref k] h2') := rfl
    refine this.trans ?_
    have e2 : pv_copy [.int (Int32.ofNat N), .int 0, .ref h.2.1, .int 0, .ref k] h2' = some ([], pv_put h2' h.2.1 (0, ix n, va_cpy f (fun _ => .int 0) 0 0 N)) := by
      unfold pv_copy
      simp only []
      rw [hnew, hold, hcl]
      rw [if_pos]
      · rfl
      · refine ⟨⟨rfl, hk2, rfl, hk3, hne⟩, by decide, ?_, by decide, by decide, ?_, ?_⟩
        · rw [Int32.lt_iff_toInt_lt, hN]; show ¬ ((N : Int) < 0); omega
        · show 0 + N ≤ N; omega
        · show 0 + N ≤ ix n; omega
    rw [e2]
    rfl
  refine pvX.step (pc' := 32) (ls' := pv_set1 (lv_args 0 [.ref k, .int n]) 2 (.ref h.2.1)) (st' := [.ref h.2.1]) (h' := pv_put h2' h.2.1 (0, ix n, va_cpy f (fun _ => .int 0) 0 0 N)) rfl ?_
  exact pvX.ret rfl
end STR
