/-! THE START, JOINED -/
section ST2
variable {args : Array Value} {s : State}
theorem st_sr {own tx : String} {k : Nat} (h : (Jvm.Cond.stringRef own k tx).before args s = true) : (Jvm.Cond.stringRef own k tx).before #[] s = true := h
def st_S (s : State) (args : Array Value) (j a t : Nat) : Prop := (∃ (c : String) (i : Nat), repTab[j]? = some (c, i, j) ∧ (Jvm.Term.string c i).eval args s none [] s = some (.ref a)) ∧ va_O "java/lang/String" a (fun q => s.heap.size ≤ q) s s.heap ∧ va_OF "java/lang/String" "coder" "B" (.int 0) a (fun q => s.heap.size ≤ q) s s.heap ∧ va_OF "java/lang/String" "value" "[B" (.ref t) a (fun q => s.heap.size ≤ q) s s.heap ∧ va_T .byte t (xaL.getD j (11, 0, fun _ => 0)).2.1 (fun i => .int ((xaL.getD j (11, 0, fun _ => 0)).2.2 i)) (fun q => s.heap.size ≤ q) s s.heap
theorem st_strings (hs : ∀ c ∈ flatC (Jvm.Cond.and given_1 narrow_1), c.before args s = true) : ∃ f : Nat → Nat × Nat, ∀ j, j < 23 → st_S s args j (f j).1 (f j).2 := by
  have hA : ∀ a : Nat, a < s.heap.size → ¬ s.heap.size ≤ a := fun a h => Nat.not_le.mpr h
  have H : ∀ j, ∃ q : Nat × Nat, j < 23 → st_S s args j q.1 q.2 := by
    intro j
    match j with
    | 0 => obtain ⟨a, t, h1, h2⟩ := str_0 (A := fun q => s.heap.size ≤ q) hs hA; exact ⟨(a, t), fun _ => ⟨⟨_, _, rfl, h1⟩, h2⟩⟩
    | 1 => obtain ⟨a, t, h1, h2⟩ := str_1 (A := fun q => s.heap.size ≤ q) hs hA; exact ⟨(a, t), fun _ => ⟨⟨_, _, rfl, h1⟩, h2⟩⟩
    | 2 => obtain ⟨a, t, h1, h2⟩ := str_2 (A := fun q => s.heap.size ≤ q) hs hA; exact ⟨(a, t), fun _ => ⟨⟨_, _, rfl, h1⟩, h2⟩⟩
    | 3 => obtain ⟨a, t, h1, h2⟩ := str_3 (A := fun q => s.heap.size ≤ q) hs hA; exact ⟨(a, t), fun _ => ⟨⟨_, _, rfl, h1⟩, h2⟩⟩
    | 4 => obtain ⟨a, t, h1, h2⟩ := str_4 (A := fun q => s.heap.size ≤ q) hs hA; exact ⟨(a, t), fun _ => ⟨⟨_, _, rfl, h1⟩, h2⟩⟩
    | 5 => obtain ⟨a, t, h1, h2⟩ := str_5 (A := fun q => s.heap.size ≤ q) hs hA; exact ⟨(a, t), fun _ => ⟨⟨_, _, rfl, h1⟩, h2⟩⟩
    | 6 => obtain ⟨a, t, h1, h2⟩ := str_6 (A := fun q => s.heap.size ≤ q) hs hA; exact ⟨(a, t), fun _ => ⟨⟨_, _, rfl, h1⟩, h2⟩⟩
    | 7 => obtain ⟨a, t, h1, h2⟩ := str_7 (A := fun q => s.heap.size ≤ q) hs hA; exact ⟨(a, t), fun _ => ⟨⟨_, _, rfl, h1⟩, h2⟩⟩
    | 8 => obtain ⟨a, t, h1, h2⟩ := str_8 (A := fun q => s.heap.size ≤ q) hs hA; exact ⟨(a, t), fun _ => ⟨⟨_, _, rfl, h1⟩, h2⟩⟩
    | 9 => obtain ⟨a, t, h1, h2⟩ := str_9 (A := fun q => s.heap.size ≤ q) hs hA; exact ⟨(a, t), fun _ => ⟨⟨_, _, rfl, h1⟩, h2⟩⟩
    | 10 => obtain ⟨a, t, h1, h2⟩ := str_10 (A := fun q => s.heap.size ≤ q) hs hA; exact ⟨(a, t), fun _ => ⟨⟨_, _, rfl, h1⟩, h2⟩⟩
    | 11 => obtain ⟨a, t, h1, h2⟩ := str_11 (A := fun q => s.heap.size ≤ q) hs hA; exact ⟨(a, t), fun _ => ⟨⟨_, _, rfl, h1⟩, h2⟩⟩
    | 12 => obtain ⟨a, t, h1, h2⟩ := str_12 (A := fun q => s.heap.size ≤ q) hs hA; exact ⟨(a, t), fun _ => ⟨⟨_, _, rfl, h1⟩, h2⟩⟩
    | 13 => obtain ⟨a, t, h1, h2⟩ := str_13 (A := fun q => s.heap.size ≤ q) hs hA; exact ⟨(a, t), fun _ => ⟨⟨_, _, rfl, h1⟩, h2⟩⟩
    | 14 => obtain ⟨a, t, h1, h2⟩ := str_14 (A := fun q => s.heap.size ≤ q) hs hA; exact ⟨(a, t), fun _ => ⟨⟨_, _, rfl, h1⟩, h2⟩⟩
    | 15 => obtain ⟨a, t, h1, h2⟩ := str_15 (A := fun q => s.heap.size ≤ q) hs hA; exact ⟨(a, t), fun _ => ⟨⟨_, _, rfl, h1⟩, h2⟩⟩
    | 16 => obtain ⟨a, t, h1, h2⟩ := str_16 (A := fun q => s.heap.size ≤ q) hs hA; exact ⟨(a, t), fun _ => ⟨⟨_, _, rfl, h1⟩, h2⟩⟩
    | 17 => obtain ⟨a, t, h1, h2⟩ := str_17 (A := fun q => s.heap.size ≤ q) hs hA; exact ⟨(a, t), fun _ => ⟨⟨_, _, rfl, h1⟩, h2⟩⟩
    | 18 => obtain ⟨a, t, h1, h2⟩ := str_18 (A := fun q => s.heap.size ≤ q) hs hA; exact ⟨(a, t), fun _ => ⟨⟨_, _, rfl, h1⟩, h2⟩⟩
    | 19 => obtain ⟨a, t, h1, h2⟩ := str_19 (A := fun q => s.heap.size ≤ q) hs hA; exact ⟨(a, t), fun _ => ⟨⟨_, _, rfl, h1⟩, h2⟩⟩
    | 20 => obtain ⟨a, t, h1, h2⟩ := str_20 (A := fun q => s.heap.size ≤ q) hs hA; exact ⟨(a, t), fun _ => ⟨⟨_, _, rfl, h1⟩, h2⟩⟩
    | 21 => obtain ⟨a, t, h1, h2⟩ := str_21 (A := fun q => s.heap.size ≤ q) hs hA; exact ⟨(a, t), fun _ => ⟨⟨_, _, rfl, h1⟩, h2⟩⟩
    | 22 => obtain ⟨a, t, h1, h2⟩ := str_22 (A := fun q => s.heap.size ≤ q) hs hA; exact ⟨(a, t), fun _ => ⟨⟨_, _, rfl, h1⟩, h2⟩⟩
    | k + 23 => exact ⟨(0, 0), fun h => absurd h (by omega)⟩
  exact Classical.axiomOfChoice H
theorem st_srw (hts : ∀ w ∈ lw_tbl, w.before args s = true) : ∀ (k : Nat) q, strTab[k]? = some q → (Jvm.Cond.stringRef q.1 q.2.1 q.2.2.1).before #[] s = true := by
  intro k q hq
  match k, hq with
  | 0, hq => cases hq; exact st_sr (args := args) (hts _ (lw_at lw_m1 74 rfl))
  | 1, hq => cases hq; exact st_sr (args := args) (hts _ (lw_at lw_m1 75 rfl))
  | 2, hq => cases hq; exact st_sr (args := args) (hts _ (lw_at lw_m1 76 rfl))
  | 3, hq => cases hq; exact st_sr (args := args) (hts _ (lw_at lw_m1 77 rfl))
  | 4, hq => cases hq; exact st_sr (args := args) (hts _ (lw_at lw_m1 78 rfl))
  | 5, hq => cases hq; exact st_sr (args := args) (hts _ (lw_at lw_m1 79 rfl))
  | 6, hq => cases hq; exact st_sr (args := args) (hts _ (lw_at lw_m1 80 rfl))
  | 7, hq => cases hq; exact st_sr (args := args) (hts _ (lw_at lw_m1 81 rfl))
  | 8, hq => cases hq; exact st_sr (args := args) (hts _ (lw_at lw_m1 82 rfl))
  | 9, hq => cases hq; exact st_sr (args := args) (hts _ (lw_at lw_m1 83 rfl))
  | 10, hq => cases hq; exact st_sr (args := args) (hts _ (lw_at lw_m1 84 rfl))
  | 11, hq => cases hq; exact st_sr (args := args) (hts _ (lw_at lw_m1 85 rfl))
  | 12, hq => cases hq; exact st_sr (args := args) (hts _ (lw_at lw_m1 86 rfl))
  | 13, hq => cases hq; exact st_sr (args := args) (hts _ (lw_at lw_m10 63 rfl))
  | 14, hq => cases hq; exact st_sr (args := args) (hts _ (lw_at lw_m10 65 rfl))
  | 15, hq => cases hq; exact st_sr (args := args) (hts _ (lw_at lw_m8 188 rfl))
  | 16, hq => cases hq; exact st_sr (args := args) (hts _ (lw_at lw_m8 239 rfl))
  | 17, hq => cases hq; exact st_sr (args := args) (hts _ (lw_at lw_m9 65 rfl))
  | 18, hq => cases hq; exact st_sr (args := args) (hts _ (lw_at lw_m9 84 rfl))
  | 19, hq => cases hq; exact st_sr (args := args) (hts _ (lw_at lw_m9 73 rfl))
  | 20, hq => cases hq; exact st_sr (args := args) (hts _ (lw_at lw_m9 81 rfl))
  | 21, hq => cases hq; exact st_sr (args := args) (hts _ (lw_at lw_m9 82 rfl))
  | 22, hq => cases hq; exact st_sr (args := args) (hts _ (lw_at lw_m12 154 rfl))
  | 23, hq => cases hq; exact st_sr (args := args) (hts _ (lw_at lw_m12 155 rfl))
  | 24, hq => cases hq; exact st_sr (args := args) (hts _ (lw_at lw_m12 156 rfl))
  | 25, hq => cases hq; exact st_sr (args := args) (hts _ (lw_at lw_m12 157 rfl))
  | 26, hq => cases hq; exact st_sr (args := args) (hts _ (lw_at lw_m12 158 rfl))
  | 27, hq => cases hq; exact st_sr (args := args) (hts _ (lw_at lw_m12 159 rfl))
  | 28, hq => cases hq; exact st_sr (args := args) (hts _ (lw_at lw_m12 160 rfl))
  | 29, hq => cases hq; exact st_sr (args := args) (hts _ (lw_at lw_m12 161 rfl))
  | 30, hq => cases hq; exact st_sr (args := args) (hts _ (lw_at lw_m12 162 rfl))
  | 31, hq => cases hq; exact st_sr (args := args) (hts _ (lw_at lw_m12 163 rfl))
  | 32, hq => cases hq; exact st_sr (args := args) (hts _ (lw_at lw_m12 164 rfl))
  | 33, hq => cases hq; exact st_sr (args := args) (hts _ (lw_at lw_m12 165 rfl))
  | 34, hq => cases hq; exact st_sr (args := args) (hts _ (lw_at lw_m12 166 rfl))
  | 35, hq => cases hq; exact st_sr (args := args) (hts _ (lw_at lw_m14 14 rfl))
  | 36, hq => cases hq; exact st_sr (args := args) (hts _ (lw_at lw_m14 48 rfl))
  | 37, hq => cases hq; exact st_sr (args := args) (hts _ (lw_at lw_m14 66 rfl))
  | 38, hq => cases hq; exact st_sr (args := args) (hts _ (lw_at lw_m14 67 rfl))
  | 39, hq => cases hq; exact st_sr (args := args) (hts _ (lw_at lw_m14 72 rfl))
  | 40, hq => cases hq; exact st_sr (args := args) (hts _ (lw_at lw_m14 57 rfl))
  | 41, hq => cases hq; exact st_sr (args := args) (hts _ (lw_at lw_m14 77 rfl))
  | 42, hq => cases hq; exact st_sr (args := args) (hts _ (lw_at lw_m15 3 rfl))
  | k + 43, hq => cases hq
theorem st_D (hts : ∀ w ∈ lw_tbl, w.before args s = true) : ∃ D : va_G, ∀ (ci : Nat) (r : vw_C), pcl[ci]? = some r → u_Kn s r.1 r.2.1 r.2.2 (D.1 ci) (D.2 ci) := by
  have H : ∀ ci : Nat, ∃ q : ClassId × (Nat → Nat), ∀ r : vw_C, pcl[ci]? = some r → u_Kn s r.1 r.2.1 r.2.2 q.1 q.2 := by
    intro ci
    match ci with
    | 0 => obtain ⟨a, b, h⟩ := u_known (C := RX1) (T := TX1) (N := 15) hts (fun w h => lw_all_tbl (in_X1 w h)) (hts _ (lw_at lw_m1 32 rfl)); exact ⟨(a, b), fun r hr => by cases hr; exact h⟩
    | 1 => obtain ⟨a, b, h⟩ := u_known (C := RX1) (T := TX1) (N := 15) hts (fun w h => lw_all_tbl (in_X1 w h)) (hts _ (lw_at lw_m1 32 rfl)); exact ⟨(a, b), fun r hr => by cases hr; exact h⟩
    | 2 => obtain ⟨a, b, h⟩ := u_known (C := RX2) (T := TX2) (N := 2) hts (fun w h => lw_all_tbl (in_X2 w h)) (hts _ (lw_at lw_m1 40 rfl)); exact ⟨(a, b), fun r hr => by cases hr; exact h⟩
    | 3 => obtain ⟨a, b, h⟩ := u_known (C := RX3) (T := TX3) (N := 2) hts (fun w h => lw_all_tbl (in_X3 w h)) (hts _ (lw_at lw_m1 54 rfl)); exact ⟨(a, b), fun r hr => by cases hr; exact h⟩
    | 4 => obtain ⟨a, b, h⟩ := u_known (C := RX4) (T := TX4) (N := 10) hts (fun w h => lw_all_tbl (in_X4 w h)) (hts _ (lw_at lw_m1 67 rfl)); exact ⟨(a, b), fun r hr => by cases hr; exact h⟩
    | 5 => obtain ⟨a, b, h⟩ := u_known (C := RX5) (T := TX5) (N := 39) hts (fun w h => lw_all_tbl (in_X5 w h)) (hts _ (lw_at lw_m1 169 rfl)); exact ⟨(a, b), fun r hr => by cases hr; exact h⟩
    | 6 => obtain ⟨a, b, h⟩ := u_known (C := RX6) (T := TX6) (N := 18) hts (fun w h => lw_all_tbl (in_X6 w h)) (hts _ (lw_at lw_m2 149 rfl)); exact ⟨(a, b), fun r hr => by cases hr; exact h⟩
    | 7 => obtain ⟨a, b, h⟩ := u_known (C := RX7) (T := TX7) (N := 13) hts (fun w h => lw_all_tbl (in_X7 w h)) (hts _ (lw_at lw_m2 212 rfl)); exact ⟨(a, b), fun r hr => by cases hr; exact h⟩
    | 8 => obtain ⟨a, b, h⟩ := u_known (C := RX8) (T := TX8) (N := 14) hts (fun w h => lw_all_tbl (in_X8 w h)) (hts _ (lw_at lw_m3 18 rfl)); exact ⟨(a, b), fun r hr => by cases hr; exact h⟩
    | 9 => obtain ⟨a, b, h⟩ := u_known (C := RX9) (T := TX9) (N := 20) hts (fun w h => lw_all_tbl (in_X9 w h)) (hts _ (lw_at lw_m3 67 rfl)); exact ⟨(a, b), fun r hr => by cases hr; exact h⟩
    | 10 => obtain ⟨a, b, h⟩ := u_known (C := RX10) (T := TX10) (N := 15) hts (fun w h => lw_all_tbl (in_X10 w h)) (hts _ (lw_at lw_m3 135 rfl)); exact ⟨(a, b), fun r hr => by cases hr; exact h⟩
    | 11 => obtain ⟨a, b, h⟩ := u_known (C := RX11) (T := TX11) (N := 11) hts (fun w h => lw_all_tbl (in_X11 w h)) (hts _ (lw_at lw_m3 187 rfl)); exact ⟨(a, b), fun r hr => by cases hr; exact h⟩
    | 12 => obtain ⟨a, b, h⟩ := u_known (C := RX12) (T := TX12) (N := 3) hts (fun w h => lw_all_tbl (in_X12 w h)) (hts _ (lw_at lw_m3 227 rfl)); exact ⟨(a, b), fun r hr => by cases hr; exact h⟩
    | 13 => obtain ⟨a, b, h⟩ := u_known (C := RX13) (T := TX13) (N := 27) hts (fun w h => lw_all_tbl (in_X13 w h)) (hts _ (lw_at lw_m4 3 rfl)); exact ⟨(a, b), fun r hr => by cases hr; exact h⟩
    | 14 => obtain ⟨a, b, h⟩ := u_known (C := RX14) (T := TX14) (N := 18) hts (fun w h => lw_all_tbl (in_X14 w h)) (hts _ (lw_at lw_m4 96 rfl)); exact ⟨(a, b), fun r hr => by cases hr; exact h⟩
    | 15 => obtain ⟨a, b, h⟩ := u_known (C := RX15) (T := TX15) (N := 171) hts (fun w h => lw_all_tbl (in_X15 w h)) (hts _ (lw_at lw_m10 67 rfl)); exact ⟨(a, b), fun r hr => by cases hr; exact h⟩
    | 16 => obtain ⟨a, b, h⟩ := u_known (C := RJ7) (T := TJ7) (N := 6) hts (fun w h => lw_all_tbl (in_J7 w h)) (hts _ (lw_at lw_m5 214 rfl)); exact ⟨(a, b), fun r hr => by cases hr; exact h⟩
    | 17 => obtain ⟨a, b, h⟩ := u_known (C := RJ10) (T := TJ10) (N := 6) hts (fun w h => lw_all_tbl (in_J10 w h)) (hts _ (lw_at lw_m8 124 rfl)); exact ⟨(a, b), fun r hr => by cases hr; exact h⟩
    | 18 => obtain ⟨a, b, h⟩ := u_known (C := RJ11) (T := TJ11) (N := 6) hts (fun w h => lw_all_tbl (in_J11 w h)) (hts _ (lw_at lw_m8 150 rfl)); exact ⟨(a, b), fun r hr => by cases hr; exact h⟩
    | 19 => obtain ⟨a, b, h⟩ := u_known (C := RJ12) (T := TJ12) (N := 6) hts (fun w h => lw_all_tbl (in_J12 w h)) (hts _ (lw_at lw_m9 47 rfl)); exact ⟨(a, b), fun r hr => by cases hr; exact h⟩
    | k + 20 => exact ⟨(0, fun _ => 0), fun r hr => by cases hr⟩
  obtain ⟨f, hf⟩ := Classical.axiomOfChoice H
  exact ⟨(fun ci => (f ci).1, fun ci => (f ci).2), hf⟩
theorem st_KC {D : va_G} {B : Nat} {sa : Nat → Nat} {xv : Nat → Value} {cA : Nat → ClassId} {H0 : Heap} {L : Nat} {xs : Nat → Int32} (hts : ∀ w ∈ lw_tbl, w.before args s = true) (hD : ∀ (ci : Nat) (r : vw_C), pcl[ci]? = some r → u_Kn s r.1 r.2.1 r.2.2 (D.1 ci) (D.2 ci)) : pv_KC (mkE B sa xv D cA H0) (PP L xs) args s := by
  intro ci r hr
  have hr : pcl[ci]? = some r := hr
  refine ⟨hD ci r hr, ?_⟩
  match ci, hr with
  | 0, hr => cases hr; exact ⟨fun w h => hts _ (lw_all_tbl (in_X1 w h)), rfl, fun k hk => ⟨tyX1_ok k hk, rfl⟩, nmX1⟩
  | 1, hr => cases hr; exact ⟨fun w h => hts _ (lw_all_tbl (in_X1 w h)), rfl, fun k hk => ⟨tyX1_ok k hk, rfl⟩, nmX1⟩
  | 2, hr => cases hr; exact ⟨fun w h => hts _ (lw_all_tbl (in_X2 w h)), rfl, fun k hk => ⟨tyX2_ok k hk, rfl⟩, nmX2⟩
  | 3, hr => cases hr; exact ⟨fun w h => hts _ (lw_all_tbl (in_X3 w h)), rfl, fun k hk => ⟨tyX3_ok k hk, rfl⟩, nmX3⟩
  | 4, hr => cases hr; exact ⟨fun w h => hts _ (lw_all_tbl (in_X4 w h)), rfl, fun k hk => ⟨tyX4_ok k hk, rfl⟩, nmX4⟩
  | 5, hr => cases hr; exact ⟨fun w h => hts _ (lw_all_tbl (in_X5 w h)), rfl, fun k hk => ⟨tyX5_ok k hk, rfl⟩, nmX5⟩
  | 6, hr => cases hr; exact ⟨fun w h => hts _ (lw_all_tbl (in_X6 w h)), rfl, fun k hk => ⟨tyX6_ok k hk, rfl⟩, nmX6⟩
  | 7, hr => cases hr; exact ⟨fun w h => hts _ (lw_all_tbl (in_X7 w h)), rfl, fun k hk => ⟨tyX7_ok k hk, rfl⟩, nmX7⟩
  | 8, hr => cases hr; exact ⟨fun w h => hts _ (lw_all_tbl (in_X8 w h)), rfl, fun k hk => ⟨tyX8_ok k hk, rfl⟩, nmX8⟩
  | 9, hr => cases hr; exact ⟨fun w h => hts _ (lw_all_tbl (in_X9 w h)), rfl, fun k hk => ⟨tyX9_ok k hk, rfl⟩, nmX9⟩
  | 10, hr => cases hr; exact ⟨fun w h => hts _ (lw_all_tbl (in_X10 w h)), rfl, fun k hk => ⟨tyX10_ok k hk, rfl⟩, nmX10⟩
  | 11, hr => cases hr; exact ⟨fun w h => hts _ (lw_all_tbl (in_X11 w h)), rfl, fun k hk => ⟨tyX11_ok k hk, rfl⟩, nmX11⟩
  | 12, hr => cases hr; exact ⟨fun w h => hts _ (lw_all_tbl (in_X12 w h)), rfl, fun k hk => ⟨tyX12_ok k hk, rfl⟩, nmX12⟩
  | 13, hr => cases hr; exact ⟨fun w h => hts _ (lw_all_tbl (in_X13 w h)), rfl, fun k hk => ⟨tyX13_ok k hk, rfl⟩, nmX13⟩
  | 14, hr => cases hr; exact ⟨fun w h => hts _ (lw_all_tbl (in_X14 w h)), rfl, fun k hk => ⟨tyX14_ok k hk, rfl⟩, nmX14⟩
  | 15, hr => cases hr; exact ⟨fun w h => hts _ (lw_all_tbl (in_X15 w h)), rfl, fun k hk => ⟨tyX15_ok k hk, rfl⟩, nmX15⟩
  | 16, hr => cases hr; exact ⟨fun w h => hts _ (lw_all_tbl (in_J7 w h)), rfl, fun k hk => ⟨tyJ7_ok k hk, rfl⟩, nmJ7⟩
  | 17, hr => cases hr; exact ⟨fun w h => hts _ (lw_all_tbl (in_J10 w h)), rfl, fun k hk => ⟨tyJ10_ok k hk, rfl⟩, nmJ10⟩
  | 18, hr => cases hr; exact ⟨fun w h => hts _ (lw_all_tbl (in_J11 w h)), rfl, fun k hk => ⟨tyJ11_ok k hk, rfl⟩, nmJ11⟩
  | 19, hr => cases hr; exact ⟨fun w h => hts _ (lw_all_tbl (in_J12 w h)), rfl, fun k hk => ⟨tyJ12_ok k hk, rfl⟩, nmJ12⟩
  | k + 20, hr => cases hr
theorem st_XC {D : va_G} (hs : ∀ c ∈ flatC (Jvm.Cond.and given_1 narrow_1), c.before args s = true) (hD : ∀ (ci : Nat) (r : vw_C), pcl[ci]? = some r → u_Kn s r.1 r.2.1 r.2.2 (D.1 ci) (D.2 ci)) : pv_XC D s := by
  have f16 := (hD 16 _ rfl).2.1
  have f17 := (hD 17 _ rfl).2.1
  have f18 := (hD 18 _ rfl).2.1
  have f19 := (hD 19 _ rfl).2.1
  have n16_17 : s.vm.assignable (D.1 16) (D.1 17) = false := by
    obtain ⟨c, t, h1, h2, h3⟩ := va_Nc.of (hs _ (fl 26 rfl))
    rw [Option.some.inj (f16.symm.trans h1), Option.some.inj (f17.symm.trans h2)]
    exact h3
  have n16_18 : s.vm.assignable (D.1 16) (D.1 18) = false := by
    obtain ⟨c, t, h1, h2, h3⟩ := va_Nc.of (hs _ (fl 64 rfl))
    rw [Option.some.inj (f16.symm.trans h1), Option.some.inj (f18.symm.trans h2)]
    exact h3
  have n16_19 : s.vm.assignable (D.1 16) (D.1 19) = false := by
    obtain ⟨c, t, h1, h2, h3⟩ := va_Nc.of (hs _ (fl 83 rfl))
    rw [Option.some.inj (f16.symm.trans h1), Option.some.inj (f19.symm.trans h2)]
    exact h3
  have n17_16 : s.vm.assignable (D.1 17) (D.1 16) = false := by
    obtain ⟨c, t, h1, h2, h3⟩ := va_Nc.of (hs _ (fl 45 rfl))
    rw [Option.some.inj (f17.symm.trans h1), Option.some.inj (f16.symm.trans h2)]
    exact h3
  have n17_18 : s.vm.assignable (D.1 17) (D.1 18) = false := by
    obtain ⟨c, t, h1, h2, h3⟩ := va_Nc.of (hs _ (fl 65 rfl))
    rw [Option.some.inj (f17.symm.trans h1), Option.some.inj (f18.symm.trans h2)]
    exact h3
  have n17_19 : s.vm.assignable (D.1 17) (D.1 19) = false := by
    obtain ⟨c, t, h1, h2, h3⟩ := va_Nc.of (hs _ (fl 84 rfl))
    rw [Option.some.inj (f17.symm.trans h1), Option.some.inj (f19.symm.trans h2)]
    exact h3
  have n18_16 : s.vm.assignable (D.1 18) (D.1 16) = false := by
    obtain ⟨c, t, h1, h2, h3⟩ := va_Nc.of (hs _ (fl 46 rfl))
    rw [Option.some.inj (f18.symm.trans h1), Option.some.inj (f16.symm.trans h2)]
    exact h3
  have n18_17 : s.vm.assignable (D.1 18) (D.1 17) = false := by
    obtain ⟨c, t, h1, h2, h3⟩ := va_Nc.of (hs _ (fl 27 rfl))
    rw [Option.some.inj (f18.symm.trans h1), Option.some.inj (f17.symm.trans h2)]
    exact h3
  have n18_19 : s.vm.assignable (D.1 18) (D.1 19) = false := by
    obtain ⟨c, t, h1, h2, h3⟩ := va_Nc.of (hs _ (fl 85 rfl))
    rw [Option.some.inj (f18.symm.trans h1), Option.some.inj (f19.symm.trans h2)]
    exact h3
  have n19_16 : s.vm.assignable (D.1 19) (D.1 16) = false := by
    obtain ⟨c, t, h1, h2, h3⟩ := va_Nc.of (hs _ (fl 48 rfl))
    rw [Option.some.inj (f19.symm.trans h1), Option.some.inj (f16.symm.trans h2)]
    exact h3
  have n19_17 : s.vm.assignable (D.1 19) (D.1 17) = false := by
    obtain ⟨c, t, h1, h2, h3⟩ := va_Nc.of (hs _ (fl 29 rfl))
    rw [Option.some.inj (f19.symm.trans h1), Option.some.inj (f17.symm.trans h2)]
    exact h3
  have n19_18 : s.vm.assignable (D.1 19) (D.1 18) = false := by
    obtain ⟨c, t, h1, h2, h3⟩ := va_Nc.of (hs _ (fl 67 rfl))
    rw [Option.some.inj (f19.symm.trans h1), Option.some.inj (f18.symm.trans h2)]
    exact h3
  intro ci h1 h2
  rcases (by omega : ci = 16 ∨ ci = 17 ∨ ci = 18 ∨ ci = 19) with rfl | rfl | rfl | rfl
  · refine ⟨⟨_, (hD 16 _ rfl).2.2.choose_spec.1⟩, fun r hr => (hD 16 r hr).2.1, fun cj h3 h4 => ?_⟩
    rcases (by omega : cj = 16 ∨ cj = 17 ∨ cj = 18 ∨ cj = 19) with rfl | rfl | rfl | rfl
    · exact va_asg _ _
    · exact n16_17
    · exact n16_18
    · exact n16_19
  · refine ⟨⟨_, (hD 17 _ rfl).2.2.choose_spec.1⟩, fun r hr => (hD 17 r hr).2.1, fun cj h3 h4 => ?_⟩
    rcases (by omega : cj = 16 ∨ cj = 17 ∨ cj = 18 ∨ cj = 19) with rfl | rfl | rfl | rfl
    · exact n17_16
    · exact va_asg _ _
    · exact n17_18
    · exact n17_19
  · refine ⟨⟨_, (hD 18 _ rfl).2.2.choose_spec.1⟩, fun r hr => (hD 18 r hr).2.1, fun cj h3 h4 => ?_⟩
    rcases (by omega : cj = 16 ∨ cj = 17 ∨ cj = 18 ∨ cj = 19) with rfl | rfl | rfl | rfl
    · exact n18_16
    · exact n18_17
    · exact va_asg _ _
    · exact n18_19
  · refine ⟨⟨_, (hD 19 _ rfl).2.2.choose_spec.1⟩, fun r hr => (hD 19 r hr).2.1, fun cj h3 h4 => ?_⟩
    rcases (by omega : cj = 16 ∨ cj = 17 ∨ cj = 18 ∨ cj = 19) with rfl | rfl | rfl | rfl
    · exact n19_16
    · exact n19_17
    · exact n19_18
    · exact va_asg _ _
theorem st_KA (hts : ∀ w ∈ lw_tbl, w.before args s = true) : ∃ cA : Nat → ClassId, ∀ t, t < 5 → ArrOfT s (cA t) (pv_ty t) ∧ va_RA s (cA t) (pv_ty t) := by
  have H : ∀ t, ∃ c : ClassId, t < 5 → ArrOfT s c (pv_ty t) ∧ va_RA s c (pv_ty t) := by
    intro t
    match t with
    | 0 => obtain ⟨c, k, comp, h1, h2, h3⟩ := Cond.arrayClass_spec (hts _ (lw_at lw_m1 167 rfl)); exact ⟨c, fun _ => ⟨fun n z => ⟨(fun k h => by cases h), k, h2, comp, h3⟩, h1⟩⟩
    | 1 => obtain ⟨c, k, comp, h1, h2, h3⟩ := Cond.arrayClass_spec (hts _ (lw_at lw_m1 52 rfl)); exact ⟨c, fun _ => ⟨fun n z => ⟨(fun k h => by cases h), k, h2, comp, h3⟩, h1⟩⟩
    | 2 => obtain ⟨c, k, comp, h1, h2, h3⟩ := Cond.arrayClass_spec (hts _ (lw_at lw_m1 166 rfl)); exact ⟨c, fun _ => ⟨fun n z => ⟨(fun k h => by cases h), k, h2, comp, h3⟩, h1⟩⟩
    | 3 => obtain ⟨c, k, comp, h1, h2, h3⟩ := Cond.arrayClass_spec (hts _ (lw_at lw_m3 133 rfl)); exact ⟨c, fun _ => ⟨fun n z => ⟨(fun k h => by cases h), k, h2, comp, h3⟩, h1⟩⟩
    | 4 => obtain ⟨comp, c, k, h1, h2, h3, h4, h5⟩ := Cond.arrayOver_spec (hts _ (lw_at lw_m1 73 rfl)); exact ⟨c, fun _ => ⟨fun n z => ⟨(fun k h => by cases h), k, h3, comp, h4⟩, k, comp, h3, h4, h1, h5⟩⟩
    | k + 5 => exact ⟨0, fun h => absurd h (by omega)⟩
  exact Classical.axiomOfChoice H
theorem st_LS {E : pvE} {n d : String} (hB : pv_B E = s.heap.size) (hH : pv_H0 E = s.heap) (hl : (Jvm.Cond.laysStatic Bundle.tN n d).before args s = true) (hini : (Jvm.Cond.initialized Bundle.tN).before args s = true) (h : (Jvm.Cond.isRef (.static Bundle.tN n d)).before args s = true) : pv_LS E n d s := by
  have hA : ∀ a : Nat, a < s.heap.size → ¬ s.heap.size ≤ a := fun a h => Nat.not_le.mpr h
  obtain ⟨c, k, i, f, a, cell, h1, h2, h3, h4, h5, h6, h7, h8, h9⟩ := Cond.laysStatic_spec hl
  have hz : ∃ v, va_Z Bundle.tN n d v (fun q => s.heap.size ≤ q) s s.heap ∧ (v = .null ∨ ∃ a, v = .ref a) := by
    rcases va_Zqof (A := fun q => s.heap.size ≤ q) hl hini h hA with z | ⟨t, z⟩
    · exact ⟨_, z, Or.inl rfl⟩
    · exact ⟨_, z, Or.inr ⟨t, rfl⟩⟩
  obtain ⟨v, ⟨cf, kf, fi, f', a', cell', q1, q2, q3, q4, q5, q6, q7, q8⟩, hv⟩ := hz
  cases h2.symm.trans q1
  cases h4.symm.trans q4
  cases h5.symm.trans q5
  exact ⟨c, k, i, f, a, cell, v, h1, h2, h3, q3, h4, by rw [hB]; exact (Array.getElem?_eq_some_iff.mp h5).1, by rw [hH]; exact h5, h6, h7, h8, h9, q7, hv⟩
theorem st_XF {E : pvE} (hB : pv_B E = s.heap.size) (hH : pv_H0 E = s.heap) (hcl : pv_cl E = pcl) (hs : ∀ c ∈ flatC (Jvm.Cond.and given_1 narrow_1), c.before args s = true) (hts : ∀ w ∈ lw_tbl, w.before args s = true) (hD : ∀ (ci : Nat) (r : vw_C), pcl[ci]? = some r → u_Kn s r.1 r.2.1 r.2.2 ((pv_D E).1 ci) ((pv_D E).2 ci)) : pv_XF E args s := by
  refine ⟨fun w h => hts _ (tA_in w h), fun ci h1 h2 => ?_, st_LS hB hH (hts _ (lw_at lw_m6 0 rfl)) (hts _ (lw_at lw_m1 20 rfl)) (hs _ (fl 9 rfl)), st_LS hB hH (hts _ (lw_at lw_m6 2 rfl)) (hts _ (lw_at lw_m1 20 rfl)) (hs _ (fl 10 rfl))⟩
  rw [hcl]
  rcases (by omega : ci = 16 ∨ ci = 17 ∨ ci = 18 ∨ ci = 19) with rfl | rfl | rfl | rfl
  · exact ⟨_, ["java/lang/RuntimeException", "java/lang/Exception"], rfl, by decide, by decide, by decide, (hD 16 _ rfl).2.1, fun w h => hts _ (ch_16 w h), fun w h => hts _ (xw_16 w h)⟩
  · exact ⟨_, ["java/lang/RuntimeException", "java/lang/Exception"], rfl, by decide, by decide, by decide, (hD 17 _ rfl).2.1, fun w h => hts _ (ch_17 w h), fun w h => hts _ (xw_17 w h)⟩
  · exact ⟨_, ["java/lang/RuntimeException", "java/lang/Exception"], rfl, by decide, by decide, by decide, (hD 18 _ rfl).2.1, fun w h => hts _ (ch_18 w h), fun w h => hts _ (xw_18 w h)⟩
  · exact ⟨_, ["java/lang/RuntimeException", "java/lang/Exception"], rfl, by decide, by decide, by decide, (hD 19 _ rfl).2.1, fun w h => hts _ (ch_19 w h), fun w h => hts _ (xw_19 w h)⟩
end ST2
def pvck (M : Nat) : Bool := (insOf M).all (fun q => match q.2.1 with | .invokespecial _ => q.2.2.2.2.2 == 2 || (miP q.2.2.2.1).2.1.isNone | _ => true)
set_option maxRecDepth 1000000 in
theorem pvck_ok : ∀ M, M < 442 → pvck M = true := by decide +kernel
theorem pv_PV_holds {L : Nat} {xs : Nat → Int32} : pv_PV (PP L xs) := by
  intro M pc i len r1 r2 r3 h idx hi h2
  have e2 : pv_ins (PP L xs) M pc = ((insOf M).find? (fun q => q.1 == pc)).map (fun q => q.2) := rfl
  rw [e2] at h
  cases hf : (insOf M).find? (fun q => q.1 == pc) with
  | none => rw [hf] at h; cases h
  | some q =>
    rw [hf] at h
    have h : q.2 = (i, len, r1, r2, r3) := Option.some.inj h
    have hm := List.mem_of_find?_eq_some hf
    have hM : M < 442 := by
      apply Classical.byContradiction
      intro hM
      have e1 : insOf M = [] := by
        unfold insOf
        rw [if_neg (by omega : ¬ M < 221), if_neg (by omega : ¬ M < 332), if_neg (by omega : ¬ M < 387), if_neg (by omega : ¬ M < 415), if_neg (by omega : ¬ M < 429), if_neg (by omega : ¬ M < 436), if_neg (by omega : ¬ M < 439), if_neg (by omega : ¬ M < 441), if_neg (by omega : ¬ M < 442)]
      rw [e1] at hm
      cases hm
    have hc := List.all_eq_true.mp (pvck_ok M hM) q hm
    rw [h, hi] at hc
    have hc : (r3 == 2 || (miP r1).2.1.isNone) = true := hc
    have h3 : (r3 == 2) = false := by simpa using h2
    rw [h3, Bool.false_or] at hc
    show (miP r1).2.1 = none
    exact Option.isNone_iff_eq_none.mp hc
