/-! THE START: what the claim's premises give for the simulation -/
theorem lt_in (ws : List Jvm.Cond) (ps : List Nat) (hp : ws = ps.filterMap (fun i => lw_tbl[i]?)) : ∀ w ∈ ws, w ∈ lw_tbl := by
  intro w h
  rw [hp] at h
  obtain ⟨i, -, hi⟩ := List.mem_filterMap.mp h
  exact List.mem_of_getElem? hi
set_option maxRecDepth 1000000 in
theorem tA_in : ∀ w ∈ pv_tA, w ∈ lw_tbl := lt_in pv_tA [265, 1440, 1449, 1455, 1458, 1460, 1441, 1442, 282, 283, 1443, 1448, 1456, 1473, 1430, 1474, 1432, 1475, 1434, 1444, 1446, 1436] (by decide +kernel)
set_option maxRecDepth 1000000 in
theorem ch_16 : ∀ w ∈ Bundle.chain0Atoms "java/lang/UnsupportedOperationException" ["java/lang/RuntimeException", "java/lang/Exception"], w ∈ lw_tbl := lt_in _ [1462, 1463, 1464, 1465, 1421, 1465, 1466, 1467, 1468, 1423, 1468, 1469, 1470, 1441, 1425] (by decide +kernel)
set_option maxRecDepth 1000000 in
theorem xw_16 : ∀ w ∈ pv_xw "java/lang/UnsupportedOperationException", w ∈ lw_tbl := lt_in _ [1419, 1427, 1428, 1429, 1431, 1433, 1435, 1471, 1438, 1437] (by decide +kernel)
set_option maxRecDepth 1000000 in
theorem ch_17 : ∀ w ∈ Bundle.chain0Atoms "java/lang/IllegalArgumentException" ["java/lang/RuntimeException", "java/lang/Exception"], w ∈ lw_tbl := lt_in _ [2058, 2059, 2060, 1465, 1421, 1465, 1466, 1467, 1468, 1423, 1468, 1469, 1470, 1441, 1425] (by decide +kernel)
set_option maxRecDepth 1000000 in
theorem xw_17 : ∀ w ∈ pv_xw "java/lang/IllegalArgumentException", w ∈ lw_tbl := lt_in _ [2049, 2051, 1452, 2052, 2053, 2054, 2055, 1471, 1438, 2056] (by decide +kernel)
set_option maxRecDepth 1000000 in
theorem ch_18 : ∀ w ∈ Bundle.chain0Atoms "java/lang/IllegalStateException" ["java/lang/RuntimeException", "java/lang/Exception"], w ∈ lw_tbl := lt_in _ [2084, 2085, 2086, 1465, 1421, 1465, 1466, 1467, 1468, 1423, 1468, 1469, 1470, 1441, 1425] (by decide +kernel)
set_option maxRecDepth 1000000 in
theorem xw_18 : ∀ w ∈ pv_xw "java/lang/IllegalStateException", w ∈ lw_tbl := lt_in _ [2075, 2077, 1453, 2078, 2079, 2080, 2081, 1471, 1438, 2082] (by decide +kernel)
set_option maxRecDepth 1000000 in
theorem ch_19 : ∀ w ∈ Bundle.chain0Atoms "java/lang/IndexOutOfBoundsException" ["java/lang/RuntimeException", "java/lang/Exception"], w ∈ lw_tbl := lt_in _ [2221, 2222, 2223, 1465, 1421, 1465, 1466, 1467, 1468, 1423, 1468, 1469, 1470, 1441, 1425] (by decide +kernel)
set_option maxRecDepth 1000000 in
theorem xw_19 : ∀ w ∈ pv_xw "java/lang/IndexOutOfBoundsException", w ∈ lw_tbl := lt_in _ [2212, 2214, 1454, 2215, 2216, 2217, 2218, 1471, 1438, 2219] (by decide +kernel)
theorem fl {c : Jvm.Cond} (k : Nat) (h : (flatC (Jvm.Cond.and given_1 narrow_1))[k]? = some c) : c ∈ flatC (Jvm.Cond.and given_1 narrow_1) := List.mem_of_getElem? h
theorem pv_str1 {args : Array Value} {s : State} {tm : Term} {A : Nat → Prop} {N : Nat} {f : Nat → Int32} (hN : N < 2 ^ 31) (hex : (Jvm.Cond.exactly tm "java/lang/String").before args s = true) (hco : (Jvm.Cond.eq (.field tm "java/lang/String" "coder" "B") (.int 0)).before args s = true)
    (har : (Jvm.Cond.arrayOf (.field tm "java/lang/String" "value" "[B") .byte).before args s = true) (hle : (Jvm.Cond.eq (.length (.field tm "java/lang/String" "value" "[B")) (.int (Int32.ofNat N))).before args s = true)
    (hel : ∀ j : Nat, j < N → (Jvm.Cond.eq (.elem (.field tm "java/lang/String" "value" "[B") (.int (Int32.ofNat j))) (.int (f j))).before args s = true) (hA : ∀ a : Nat, a < s.heap.size → ¬ A a) :
    ∃ a t : Nat, tm.eval args s none [] s = some (.ref a) ∧ va_O "java/lang/String" a A s s.heap ∧ va_OF "java/lang/String" "coder" "B" (.int 0) a A s s.heap ∧ va_OF "java/lang/String" "value" "[B" (.ref t) a A s s.heap ∧ va_T .byte t N (fun j => .int (f j)) A s s.heap := by
  obtain ⟨a, c, cA, kA, q1, q2, q3, q4, q5, q6, -⟩ := Cond.exactly_spec (args := args) (first := s) (o := none) (s := s) (idx := []) (t := tm) (cls := "java/lang/String") hex
  obtain ⟨t, ht, hT⟩ := va_Tof (f := fun j => .int (f j)) (A := A) hN har (va_eqt hle) (fun j hj => va_eqt (hel j hj)) hA
  exact ⟨a, t, q1, ⟨cA, q3, q5, by rw [q6]; exact q2, hA a (Array.getElem?_eq_some_iff.mp q3).1⟩, vk_OFof q1 (va_eqt hco) hA, vk_OFof q1 ht hA, hT⟩
/-- two terms that are said to be one -/
theorem pv_same {args : Array Value} {s : State} {t1 t2 : Term} {a : Nat} (h : (Jvm.Cond.eq t1 t2).before args s = true) (h2 : t2.eval args s none [] s = some (.ref a)) (hx : (Jvm.Cond.exactly t1 "java/lang/String").before args s = true) : t1.eval args s none [] s = some (.ref a) := by
  obtain ⟨b, c, cA, kA, q1, -⟩ := Cond.exactly_spec (args := args) (first := s) (o := none) (s := s) (idx := []) (t := t1) (cls := "java/lang/String") hx
  simp only [Cond.before, Cond.holds, Cond.value, q1, h2] at h
  have : b = a := by simpa using h
  rw [q1, this]
theorem pv_same2 {args : Array Value} {s : State} {t1 t2 : Term} {a : Nat} (h : (Jvm.Cond.eq t1 t2).before args s = true) (h1 : t1.eval args s none [] s = some (.ref a)) (hx : (Jvm.Cond.exactly t2 "java/lang/String").before args s = true) : t2.eval args s none [] s = some (.ref a) := by
  obtain ⟨b, c, cA, kA, q1, -⟩ := Cond.exactly_spec (args := args) (first := s) (o := none) (s := s) (idx := []) (t := t2) (cls := "java/lang/String") hx
  simp only [Cond.before, Cond.holds, Cond.value, q1, h1] at h
  have : a = b := by simpa using h
  rw [q1, this]
def repTab : List (String × Nat × Nat) := [("RegionHouse$Lexemes", 11, 0), ("RegionHouse$Lexemes", 13, 1), ("RegionHouse$Lexemes", 15, 2), ("RegionHouse$Lexemes", 17, 3), ("RegionHouse$Lexemes", 19, 4), ("RegionHouse$Lexemes", 21, 5), ("RegionHouse$Lexemes", 23, 6), ("RegionHouse$Lexemes", 25, 7), ("RegionHouse$Lexemes", 27, 8), ("RegionHouse$Lexemes", 29, 9), ("RegionHouse$Lexemes", 31, 10), ("RegionHouse$Lexemes", 33, 11), ("RegionHouse$Lexemes", 35, 12), ("RegionHouse$Machine", 257, 13), ("RegionHouse$Printer", 126, 14), ("RegionHouse$Printer", 146, 15), ("RegionHouse$Printer", 193, 16), ("RegionHouse$Printer", 207, 17), ("RegionHouse$Printer", 218, 18), ("RegionHouse$Printer", 220, 19), ("RegionHouseModel", 807, 20), ("RegionHouseModel", 819, 21), ("RegionHouseModel", 988, 22)]
section STR
variable {args : Array Value} {s : State} {A : Nat → Prop}
set_option maxRecDepth 1000000 in
theorem str_0 (hs : ∀ c ∈ flatC (Jvm.Cond.and given_1 narrow_1), c.before args s = true) (hA : ∀ a : Nat, a < s.heap.size → ¬ A a) : ∃ a t : Nat, (Jvm.Term.string "RegionHouse$Lexemes" 11).eval args s none [] s = some (.ref a) ∧ va_O "java/lang/String" a A s s.heap ∧ va_OF "java/lang/String" "coder" "B" (.int 0) a A s s.heap ∧ va_OF "java/lang/String" "value" "[B" (.ref t) a A s s.heap ∧ va_T .byte t 3 (fun j => .int (([102, 117, 110] : List Int32).getD j 0)) A s s.heap :=
  pv_str1 (N := 3) (by decide) (hs _ (fl 86 rfl)) (hs _ (fl 87 rfl)) (hs _ (fl 88 rfl)) (hs _ (fl 89 rfl))
    (fun j hj => by
      match j, hj with
      | 0, _ => exact (hs _ (fl 90 rfl))
      | 1, _ => exact (hs _ (fl 91 rfl))
      | 2, _ => exact (hs _ (fl 92 rfl))
      | k + 3, hj => omega) hA
set_option maxRecDepth 1000000 in
theorem str_1 (hs : ∀ c ∈ flatC (Jvm.Cond.and given_1 narrow_1), c.before args s = true) (hA : ∀ a : Nat, a < s.heap.size → ¬ A a) : ∃ a t : Nat, (Jvm.Term.string "RegionHouse$Lexemes" 13).eval args s none [] s = some (.ref a) ∧ va_O "java/lang/String" a A s s.heap ∧ va_OF "java/lang/String" "coder" "B" (.int 0) a A s s.heap ∧ va_OF "java/lang/String" "value" "[B" (.ref t) a A s s.heap ∧ va_T .byte t 4 (fun j => .int (([109, 97, 105, 110] : List Int32).getD j 0)) A s s.heap :=
  pv_str1 (N := 4) (by decide) (hs _ (fl 93 rfl)) (hs _ (fl 94 rfl)) (hs _ (fl 95 rfl)) (hs _ (fl 96 rfl))
    (fun j hj => by
      match j, hj with
      | 0, _ => exact (hs _ (fl 97 rfl))
      | 1, _ => exact (hs _ (fl 98 rfl))
      | 2, _ => exact (hs _ (fl 99 rfl))
      | 3, _ => exact (hs _ (fl 100 rfl))
      | k + 4, hj => omega) hA
set_option maxRecDepth 1000000 in
theorem str_2 (hs : ∀ c ∈ flatC (Jvm.Cond.and given_1 narrow_1), c.before args s = true) (hA : ∀ a : Nat, a < s.heap.size → ¬ A a) : ∃ a t : Nat, (Jvm.Term.string "RegionHouse$Lexemes" 15).eval args s none [] s = some (.ref a) ∧ va_O "java/lang/String" a A s s.heap ∧ va_OF "java/lang/String" "coder" "B" (.int 0) a A s s.heap ∧ va_OF "java/lang/String" "value" "[B" (.ref t) a A s s.heap ∧ va_T .byte t 2 (fun j => .int (([102, 110] : List Int32).getD j 0)) A s s.heap :=
  pv_str1 (N := 2) (by decide) (hs _ (fl 101 rfl)) (hs _ (fl 102 rfl)) (hs _ (fl 103 rfl)) (hs _ (fl 104 rfl))
    (fun j hj => by
      match j, hj with
      | 0, _ => exact (hs _ (fl 105 rfl))
      | 1, _ => exact (hs _ (fl 106 rfl))
      | k + 2, hj => omega) hA
set_option maxRecDepth 1000000 in
theorem str_3 (hs : ∀ c ∈ flatC (Jvm.Cond.and given_1 narrow_1), c.before args s = true) (hA : ∀ a : Nat, a < s.heap.size → ¬ A a) : ∃ a t : Nat, (Jvm.Term.string "RegionHouse$Lexemes" 17).eval args s none [] s = some (.ref a) ∧ va_O "java/lang/String" a A s s.heap ∧ va_OF "java/lang/String" "coder" "B" (.int 0) a A s s.heap ∧ va_OF "java/lang/String" "value" "[B" (.ref t) a A s s.heap ∧ va_T .byte t 2 (fun j => .int (([105, 102] : List Int32).getD j 0)) A s s.heap :=
  pv_str1 (N := 2) (by decide) (hs _ (fl 107 rfl)) (hs _ (fl 108 rfl)) (hs _ (fl 109 rfl)) (hs _ (fl 110 rfl))
    (fun j hj => by
      match j, hj with
      | 0, _ => exact (hs _ (fl 111 rfl))
      | 1, _ => exact (hs _ (fl 112 rfl))
      | k + 2, hj => omega) hA
set_option maxRecDepth 1000000 in
theorem str_4 (hs : ∀ c ∈ flatC (Jvm.Cond.and given_1 narrow_1), c.before args s = true) (hA : ∀ a : Nat, a < s.heap.size → ¬ A a) : ∃ a t : Nat, (Jvm.Term.string "RegionHouse$Lexemes" 19).eval args s none [] s = some (.ref a) ∧ va_O "java/lang/String" a A s s.heap ∧ va_OF "java/lang/String" "coder" "B" (.int 0) a A s s.heap ∧ va_OF "java/lang/String" "value" "[B" (.ref t) a A s s.heap ∧ va_T .byte t 4 (fun j => .int (([116, 104, 101, 110] : List Int32).getD j 0)) A s s.heap :=
  pv_str1 (N := 4) (by decide) (hs _ (fl 113 rfl)) (hs _ (fl 114 rfl)) (hs _ (fl 115 rfl)) (hs _ (fl 116 rfl))
    (fun j hj => by
      match j, hj with
      | 0, _ => exact (hs _ (fl 117 rfl))
      | 1, _ => exact (hs _ (fl 118 rfl))
      | 2, _ => exact (hs _ (fl 119 rfl))
      | 3, _ => exact (hs _ (fl 120 rfl))
      | k + 4, hj => omega) hA
set_option maxRecDepth 1000000 in
theorem str_5 (hs : ∀ c ∈ flatC (Jvm.Cond.and given_1 narrow_1), c.before args s = true) (hA : ∀ a : Nat, a < s.heap.size → ¬ A a) : ∃ a t : Nat, (Jvm.Term.string "RegionHouse$Lexemes" 21).eval args s none [] s = some (.ref a) ∧ va_O "java/lang/String" a A s s.heap ∧ va_OF "java/lang/String" "coder" "B" (.int 0) a A s s.heap ∧ va_OF "java/lang/String" "value" "[B" (.ref t) a A s s.heap ∧ va_T .byte t 4 (fun j => .int (([101, 108, 115, 101] : List Int32).getD j 0)) A s s.heap :=
  pv_str1 (N := 4) (by decide) (hs _ (fl 121 rfl)) (hs _ (fl 122 rfl)) (hs _ (fl 123 rfl)) (hs _ (fl 124 rfl))
    (fun j hj => by
      match j, hj with
      | 0, _ => exact (hs _ (fl 125 rfl))
      | 1, _ => exact (hs _ (fl 126 rfl))
      | 2, _ => exact (hs _ (fl 127 rfl))
      | 3, _ => exact (hs _ (fl 128 rfl))
      | k + 4, hj => omega) hA
set_option maxRecDepth 1000000 in
theorem str_6 (hs : ∀ c ∈ flatC (Jvm.Cond.and given_1 narrow_1), c.before args s = true) (hA : ∀ a : Nat, a < s.heap.size → ¬ A a) : ∃ a t : Nat, (Jvm.Term.string "RegionHouse$Lexemes" 23).eval args s none [] s = some (.ref a) ∧ va_O "java/lang/String" a A s s.heap ∧ va_OF "java/lang/String" "coder" "B" (.int 0) a A s s.heap ∧ va_OF "java/lang/String" "value" "[B" (.ref t) a A s s.heap ∧ va_T .byte t 3 (fun j => .int (([108, 101, 116] : List Int32).getD j 0)) A s s.heap :=
  pv_str1 (N := 3) (by decide) (hs _ (fl 129 rfl)) (hs _ (fl 130 rfl)) (hs _ (fl 131 rfl)) (hs _ (fl 132 rfl))
    (fun j hj => by
      match j, hj with
      | 0, _ => exact (hs _ (fl 133 rfl))
      | 1, _ => exact (hs _ (fl 134 rfl))
      | 2, _ => exact (hs _ (fl 135 rfl))
      | k + 3, hj => omega) hA
set_option maxRecDepth 1000000 in
theorem str_7 (hs : ∀ c ∈ flatC (Jvm.Cond.and given_1 narrow_1), c.before args s = true) (hA : ∀ a : Nat, a < s.heap.size → ¬ A a) : ∃ a t : Nat, (Jvm.Term.string "RegionHouse$Lexemes" 25).eval args s none [] s = some (.ref a) ∧ va_O "java/lang/String" a A s s.heap ∧ va_OF "java/lang/String" "coder" "B" (.int 0) a A s s.heap ∧ va_OF "java/lang/String" "value" "[B" (.ref t) a A s s.heap ∧ va_T .byte t 2 (fun j => .int (([105, 110] : List Int32).getD j 0)) A s s.heap :=
  pv_str1 (N := 2) (by decide) (hs _ (fl 136 rfl)) (hs _ (fl 137 rfl)) (hs _ (fl 138 rfl)) (hs _ (fl 139 rfl))
    (fun j hj => by
      match j, hj with
      | 0, _ => exact (hs _ (fl 140 rfl))
      | 1, _ => exact (hs _ (fl 141 rfl))
      | k + 2, hj => omega) hA
set_option maxRecDepth 1000000 in
theorem str_8 (hs : ∀ c ∈ flatC (Jvm.Cond.and given_1 narrow_1), c.before args s = true) (hA : ∀ a : Nat, a < s.heap.size → ¬ A a) : ∃ a t : Nat, (Jvm.Term.string "RegionHouse$Lexemes" 27).eval args s none [] s = some (.ref a) ∧ va_O "java/lang/String" a A s s.heap ∧ va_OF "java/lang/String" "coder" "B" (.int 0) a A s s.heap ∧ va_OF "java/lang/String" "value" "[B" (.ref t) a A s s.heap ∧ va_T .byte t 4 (fun j => .int (([99, 97, 115, 101] : List Int32).getD j 0)) A s s.heap :=
  pv_str1 (N := 4) (by decide) (hs _ (fl 142 rfl)) (hs _ (fl 143 rfl)) (hs _ (fl 144 rfl)) (hs _ (fl 145 rfl))
    (fun j hj => by
      match j, hj with
      | 0, _ => exact (hs _ (fl 146 rfl))
      | 1, _ => exact (hs _ (fl 147 rfl))
      | 2, _ => exact (hs _ (fl 148 rfl))
      | 3, _ => exact (hs _ (fl 149 rfl))
      | k + 4, hj => omega) hA
set_option maxRecDepth 1000000 in
theorem str_9 (hs : ∀ c ∈ flatC (Jvm.Cond.and given_1 narrow_1), c.before args s = true) (hA : ∀ a : Nat, a < s.heap.size → ¬ A a) : ∃ a t : Nat, (Jvm.Term.string "RegionHouse$Lexemes" 29).eval args s none [] s = some (.ref a) ∧ va_O "java/lang/String" a A s s.heap ∧ va_OF "java/lang/String" "coder" "B" (.int 0) a A s s.heap ∧ va_OF "java/lang/String" "value" "[B" (.ref t) a A s s.heap ∧ va_T .byte t 2 (fun j => .int (([111, 102] : List Int32).getD j 0)) A s s.heap :=
  pv_str1 (N := 2) (by decide) (hs _ (fl 150 rfl)) (hs _ (fl 151 rfl)) (hs _ (fl 152 rfl)) (hs _ (fl 153 rfl))
    (fun j hj => by
      match j, hj with
      | 0, _ => exact (hs _ (fl 154 rfl))
      | 1, _ => exact (hs _ (fl 155 rfl))
      | k + 2, hj => omega) hA
set_option maxRecDepth 1000000 in
theorem str_10 (hs : ∀ c ∈ flatC (Jvm.Cond.and given_1 narrow_1), c.before args s = true) (hA : ∀ a : Nat, a < s.heap.size → ¬ A a) : ∃ a t : Nat, (Jvm.Term.string "RegionHouse$Lexemes" 31).eval args s none [] s = some (.ref a) ∧ va_O "java/lang/String" a A s s.heap ∧ va_OF "java/lang/String" "coder" "B" (.int 0) a A s s.heap ∧ va_OF "java/lang/String" "value" "[B" (.ref t) a A s s.heap ∧ va_T .byte t 3 (fun j => .int (([110, 105, 108] : List Int32).getD j 0)) A s s.heap :=
  pv_str1 (N := 3) (by decide) (hs _ (fl 156 rfl)) (hs _ (fl 157 rfl)) (hs _ (fl 158 rfl)) (hs _ (fl 159 rfl))
    (fun j hj => by
      match j, hj with
      | 0, _ => exact (hs _ (fl 160 rfl))
      | 1, _ => exact (hs _ (fl 161 rfl))
      | 2, _ => exact (hs _ (fl 162 rfl))
      | k + 3, hj => omega) hA
set_option maxRecDepth 1000000 in
theorem str_11 (hs : ∀ c ∈ flatC (Jvm.Cond.and given_1 narrow_1), c.before args s = true) (hA : ∀ a : Nat, a < s.heap.size → ¬ A a) : ∃ a t : Nat, (Jvm.Term.string "RegionHouse$Lexemes" 33).eval args s none [] s = some (.ref a) ∧ va_O "java/lang/String" a A s s.heap ∧ va_OF "java/lang/String" "coder" "B" (.int 0) a A s s.heap ∧ va_OF "java/lang/String" "value" "[B" (.ref t) a A s s.heap ∧ va_T .byte t 3 (fun j => .int (([102, 115, 116] : List Int32).getD j 0)) A s s.heap :=
  pv_str1 (N := 3) (by decide) (hs _ (fl 163 rfl)) (hs _ (fl 164 rfl)) (hs _ (fl 165 rfl)) (hs _ (fl 166 rfl))
    (fun j hj => by
      match j, hj with
      | 0, _ => exact (hs _ (fl 167 rfl))
      | 1, _ => exact (hs _ (fl 168 rfl))
      | 2, _ => exact (hs _ (fl 169 rfl))
      | k + 3, hj => omega) hA
set_option maxRecDepth 1000000 in
theorem str_12 (hs : ∀ c ∈ flatC (Jvm.Cond.and given_1 narrow_1), c.before args s = true) (hA : ∀ a : Nat, a < s.heap.size → ¬ A a) : ∃ a t : Nat, (Jvm.Term.string "RegionHouse$Lexemes" 35).eval args s none [] s = some (.ref a) ∧ va_O "java/lang/String" a A s s.heap ∧ va_OF "java/lang/String" "coder" "B" (.int 0) a A s s.heap ∧ va_OF "java/lang/String" "value" "[B" (.ref t) a A s s.heap ∧ va_T .byte t 3 (fun j => .int (([115, 110, 100] : List Int32).getD j 0)) A s s.heap :=
  pv_str1 (N := 3) (by decide) (hs _ (fl 170 rfl)) (hs _ (fl 171 rfl)) (hs _ (fl 172 rfl)) (hs _ (fl 173 rfl))
    (fun j hj => by
      match j, hj with
      | 0, _ => exact (hs _ (fl 174 rfl))
      | 1, _ => exact (hs _ (fl 175 rfl))
      | 2, _ => exact (hs _ (fl 176 rfl))
      | k + 3, hj => omega) hA
set_option maxRecDepth 1000000 in
theorem str_13 (hs : ∀ c ∈ flatC (Jvm.Cond.and given_1 narrow_1), c.before args s = true) (hA : ∀ a : Nat, a < s.heap.size → ¬ A a) : ∃ a t : Nat, (Jvm.Term.string "RegionHouse$Machine" 257).eval args s none [] s = some (.ref a) ∧ va_O "java/lang/String" a A s s.heap ∧ va_OF "java/lang/String" "coder" "B" (.int 0) a A s s.heap ∧ va_OF "java/lang/String" "value" "[B" (.ref t) a A s s.heap ∧ va_T .byte t 2 (fun j => .int (([44, 32] : List Int32).getD j 0)) A s s.heap :=
  pv_str1 (N := 2) (by decide) (hs _ (fl 230 rfl)) (hs _ (fl 231 rfl)) (hs _ (fl 232 rfl)) (hs _ (fl 233 rfl))
    (fun j hj => by
      match j, hj with
      | 0, _ => exact (hs _ (fl 234 rfl))
      | 1, _ => exact (hs _ (fl 235 rfl))
      | k + 2, hj => omega) hA
set_option maxRecDepth 1000000 in
theorem str_14 (hs : ∀ c ∈ flatC (Jvm.Cond.and given_1 narrow_1), c.before args s = true) (hA : ∀ a : Nat, a < s.heap.size → ¬ A a) : ∃ a t : Nat, (Jvm.Term.string "RegionHouse$Printer" 126).eval args s none [] s = some (.ref a) ∧ va_O "java/lang/String" a A s s.heap ∧ va_OF "java/lang/String" "coder" "B" (.int 0) a A s s.heap ∧ va_OF "java/lang/String" "value" "[B" (.ref t) a A s s.heap ∧ va_T .byte t 4 (fun j => .int (([123, 110, 101, 119] : List Int32).getD j 0)) A s s.heap :=
  pv_str1 (N := 4) (by decide) (hs _ (fl 177 rfl)) (hs _ (fl 178 rfl)) (hs _ (fl 179 rfl)) (hs _ (fl 180 rfl))
    (fun j hj => by
      match j, hj with
      | 0, _ => exact (hs _ (fl 181 rfl))
      | 1, _ => exact (hs _ (fl 182 rfl))
      | 2, _ => exact (hs _ (fl 183 rfl))
      | 3, _ => exact (hs _ (fl 184 rfl))
      | k + 4, hj => omega) hA
set_option maxRecDepth 1000000 in
theorem str_15 (hs : ∀ c ∈ flatC (Jvm.Cond.and given_1 narrow_1), c.before args s = true) (hA : ∀ a : Nat, a < s.heap.size → ¬ A a) : ∃ a t : Nat, (Jvm.Term.string "RegionHouse$Printer" 146).eval args s none [] s = some (.ref a) ∧ va_O "java/lang/String" a A s s.heap ∧ va_OF "java/lang/String" "coder" "B" (.int 0) a A s s.heap ∧ va_OF "java/lang/String" "value" "[B" (.ref t) a A s s.heap ∧ va_T .byte t 4 (fun j => .int (([123, 111, 108, 100] : List Int32).getD j 0)) A s s.heap :=
  pv_str1 (N := 4) (by decide) (hs _ (fl 185 rfl)) (hs _ (fl 186 rfl)) (hs _ (fl 187 rfl)) (hs _ (fl 188 rfl))
    (fun j hj => by
      match j, hj with
      | 0, _ => exact (hs _ (fl 189 rfl))
      | 1, _ => exact (hs _ (fl 190 rfl))
      | 2, _ => exact (hs _ (fl 191 rfl))
      | 3, _ => exact (hs _ (fl 192 rfl))
      | k + 4, hj => omega) hA
set_option maxRecDepth 1000000 in
theorem str_16 (hs : ∀ c ∈ flatC (Jvm.Cond.and given_1 narrow_1), c.before args s = true) (hA : ∀ a : Nat, a < s.heap.size → ¬ A a) : ∃ a t : Nat, (Jvm.Term.string "RegionHouse$Printer" 193).eval args s none [] s = some (.ref a) ∧ va_O "java/lang/String" a A s s.heap ∧ va_OF "java/lang/String" "coder" "B" (.int 0) a A s s.heap ∧ va_OF "java/lang/String" "value" "[B" (.ref t) a A s s.heap ∧ va_T .byte t 5 (fun j => .int (([41, 32, 45, 62, 32] : List Int32).getD j 0)) A s s.heap :=
  pv_str1 (N := 5) (by decide) (hs _ (fl 221 rfl)) (hs _ (fl 222 rfl)) (hs _ (fl 223 rfl)) (hs _ (fl 224 rfl))
    (fun j hj => by
      match j, hj with
      | 0, _ => exact (hs _ (fl 225 rfl))
      | 1, _ => exact (hs _ (fl 226 rfl))
      | 2, _ => exact (hs _ (fl 227 rfl))
      | 3, _ => exact (hs _ (fl 228 rfl))
      | 4, _ => exact (hs _ (fl 229 rfl))
      | k + 5, hj => omega) hA
set_option maxRecDepth 1000000 in
theorem str_17 (hs : ∀ c ∈ flatC (Jvm.Cond.and given_1 narrow_1), c.before args s = true) (hA : ∀ a : Nat, a < s.heap.size → ¬ A a) : ∃ a t : Nat, (Jvm.Term.string "RegionHouse$Printer" 207).eval args s none [] s = some (.ref a) ∧ va_O "java/lang/String" a A s s.heap ∧ va_OF "java/lang/String" "coder" "B" (.int 0) a A s s.heap ∧ va_OF "java/lang/String" "value" "[B" (.ref t) a A s s.heap ∧ va_T .byte t 3 (fun j => .int (([105, 110, 116] : List Int32).getD j 0)) A s s.heap :=
  pv_str1 (N := 3) (by decide) (hs _ (fl 199 rfl)) (hs _ (fl 200 rfl)) (hs _ (fl 201 rfl)) (hs _ (fl 202 rfl))
    (fun j hj => by
      match j, hj with
      | 0, _ => exact (hs _ (fl 203 rfl))
      | 1, _ => exact (hs _ (fl 204 rfl))
      | 2, _ => exact (hs _ (fl 205 rfl))
      | k + 3, hj => omega) hA
set_option maxRecDepth 1000000 in
theorem str_18 (hs : ∀ c ∈ flatC (Jvm.Cond.and given_1 narrow_1), c.before args s = true) (hA : ∀ a : Nat, a < s.heap.size → ¬ A a) : ∃ a t : Nat, (Jvm.Term.string "RegionHouse$Printer" 218).eval args s none [] s = some (.ref a) ∧ va_O "java/lang/String" a A s s.heap ∧ va_OF "java/lang/String" "coder" "B" (.int 0) a A s s.heap ∧ va_OF "java/lang/String" "value" "[B" (.ref t) a A s s.heap ∧ va_T .byte t 3 (fun j => .int (([32, 42, 32] : List Int32).getD j 0)) A s s.heap :=
  pv_str1 (N := 3) (by decide) (hs _ (fl 206 rfl)) (hs _ (fl 207 rfl)) (hs _ (fl 208 rfl)) (hs _ (fl 209 rfl))
    (fun j hj => by
      match j, hj with
      | 0, _ => exact (hs _ (fl 210 rfl))
      | 1, _ => exact (hs _ (fl 211 rfl))
      | 2, _ => exact (hs _ (fl 212 rfl))
      | k + 3, hj => omega) hA
set_option maxRecDepth 1000000 in
theorem str_19 (hs : ∀ c ∈ flatC (Jvm.Cond.and given_1 narrow_1), c.before args s = true) (hA : ∀ a : Nat, a < s.heap.size → ¬ A a) : ∃ a t : Nat, (Jvm.Term.string "RegionHouse$Printer" 220).eval args s none [] s = some (.ref a) ∧ va_O "java/lang/String" a A s s.heap ∧ va_OF "java/lang/String" "coder" "B" (.int 0) a A s s.heap ∧ va_OF "java/lang/String" "value" "[B" (.ref t) a A s s.heap ∧ va_T .byte t 4 (fun j => .int (([32, 45, 62, 32] : List Int32).getD j 0)) A s s.heap :=
  pv_str1 (N := 4) (by decide) (hs _ (fl 213 rfl)) (hs _ (fl 214 rfl)) (hs _ (fl 215 rfl)) (hs _ (fl 216 rfl))
    (fun j hj => by
      match j, hj with
      | 0, _ => exact (hs _ (fl 217 rfl))
      | 1, _ => exact (hs _ (fl 218 rfl))
      | 2, _ => exact (hs _ (fl 219 rfl))
      | 3, _ => exact (hs _ (fl 220 rfl))
      | k + 4, hj => omega) hA
set_option maxRecDepth 1000000 in
theorem str_20 (hs : ∀ c ∈ flatC (Jvm.Cond.and given_1 narrow_1), c.before args s = true) (hA : ∀ a : Nat, a < s.heap.size → ¬ A a) : ∃ a t : Nat, (Jvm.Term.string "RegionHouseModel" 807).eval args s none [] s = some (.ref a) ∧ va_O "java/lang/String" a A s s.heap ∧ va_OF "java/lang/String" "coder" "B" (.int 0) a A s s.heap ∧ va_OF "java/lang/String" "value" "[B" (.ref t) a A s s.heap ∧ va_T .byte t 3 (fun j => .int (([110, 101, 119] : List Int32).getD j 0)) A s s.heap :=
  pv_str1 (N := 3) (by decide) (hs _ (fl 349 rfl)) (hs _ (fl 350 rfl)) (hs _ (fl 351 rfl)) (hs _ (fl 352 rfl))
    (fun j hj => by
      match j, hj with
      | 0, _ => exact (hs _ (fl 353 rfl))
      | 1, _ => exact (hs _ (fl 354 rfl))
      | 2, _ => exact (hs _ (fl 355 rfl))
      | k + 3, hj => omega) hA
set_option maxRecDepth 1000000 in
theorem str_21 (hs : ∀ c ∈ flatC (Jvm.Cond.and given_1 narrow_1), c.before args s = true) (hA : ∀ a : Nat, a < s.heap.size → ¬ A a) : ∃ a t : Nat, (Jvm.Term.string "RegionHouseModel" 819).eval args s none [] s = some (.ref a) ∧ va_O "java/lang/String" a A s s.heap ∧ va_OF "java/lang/String" "coder" "B" (.int 0) a A s s.heap ∧ va_OF "java/lang/String" "value" "[B" (.ref t) a A s s.heap ∧ va_T .byte t 3 (fun j => .int (([111, 108, 100] : List Int32).getD j 0)) A s s.heap :=
  pv_str1 (N := 3) (by decide) (hs _ (fl 356 rfl)) (hs _ (fl 357 rfl)) (hs _ (fl 358 rfl)) (hs _ (fl 359 rfl))
    (fun j hj => by
      match j, hj with
      | 0, _ => exact (hs _ (fl 360 rfl))
      | 1, _ => exact (hs _ (fl 361 rfl))
      | 2, _ => exact (hs _ (fl 362 rfl))
      | k + 3, hj => omega) hA
set_option maxRecDepth 1000000 in
theorem str_22 (hs : ∀ c ∈ flatC (Jvm.Cond.and given_1 narrow_1), c.before args s = true) (hA : ∀ a : Nat, a < s.heap.size → ¬ A a) : ∃ a t : Nat, (Jvm.Term.string "RegionHouseModel" 988).eval args s none [] s = some (.ref a) ∧ va_O "java/lang/String" a A s s.heap ∧ va_OF "java/lang/String" "coder" "B" (.int 0) a A s s.heap ∧ va_OF "java/lang/String" "value" "[B" (.ref t) a A s s.heap ∧ va_T .byte t 2 (fun j => .int (([91, 93] : List Int32).getD j 0)) A s s.heap :=
  pv_str1 (N := 2) (by decide) (hs _ (fl 406 rfl)) (hs _ (fl 407 rfl)) (hs _ (fl 408 rfl)) (hs _ (fl 409 rfl))
    (fun j hj => by
      match j, hj with
      | 0, _ => exact (hs _ (fl 410 rfl))
      | 1, _ => exact (hs _ (fl 411 rfl))
      | k + 2, hj => omega) hA
set_option maxRecDepth 1000000 in
set_option maxHeartbeats 4000000 in
theorem str_all (hs : ∀ c ∈ flatC (Jvm.Cond.and given_1 narrow_1), c.before args s = true) {sa : Nat → Nat} (h : ∀ (k : Nat) (c : String) (i j : Nat), repTab[k]? = some (c, i, j) → (Jvm.Term.string c i).eval args s none [] s = some (.ref (sa j))) : ∀ (k : Nat) q, strTab[k]? = some q → (Jvm.Term.string q.1 q.2.1).eval args s none [] s = some (.ref (sa q.2.2.2)) := by
  have e0 := h 0 _ _ _ rfl
  have e22 := pv_same2 (hs _ (fl 251 rfl)) e0 (hs _ (fl 244 rfl))
  have e1 := h 1 _ _ _ rfl
  have e23 := pv_same2 (hs _ (fl 260 rfl)) e1 (hs _ (fl 252 rfl))
  have e2 := h 2 _ _ _ rfl
  have e14 := pv_same2 (hs _ (fl 243 rfl)) e2 (hs _ (fl 237 rfl))
  have e24 := pv_same2 (hs _ (fl 267 rfl)) e2 (hs _ (fl 261 rfl))
  have e3 := h 3 _ _ _ rfl
  have e25 := pv_same2 (hs _ (fl 275 rfl)) e3 (hs _ (fl 269 rfl))
  have e4 := h 4 _ _ _ rfl
  have e26 := pv_same2 (hs _ (fl 284 rfl)) e4 (hs _ (fl 276 rfl))
  have e5 := h 5 _ _ _ rfl
  have e27 := pv_same2 (hs _ (fl 293 rfl)) e5 (hs _ (fl 285 rfl))
  have e6 := h 6 _ _ _ rfl
  have e28 := pv_same2 (hs _ (fl 301 rfl)) e6 (hs _ (fl 294 rfl))
  have e7 := h 7 _ _ _ rfl
  have e29 := pv_same2 (hs _ (fl 308 rfl)) e7 (hs _ (fl 302 rfl))
  have e8 := h 8 _ _ _ rfl
  have e30 := pv_same2 (hs _ (fl 317 rfl)) e8 (hs _ (fl 309 rfl))
  have e9 := h 9 _ _ _ rfl
  have e31 := pv_same2 (hs _ (fl 324 rfl)) e9 (hs _ (fl 318 rfl))
  have e10 := h 10 _ _ _ rfl
  have e32 := pv_same2 (hs _ (fl 332 rfl)) e10 (hs _ (fl 325 rfl))
  have e11 := h 11 _ _ _ rfl
  have e33 := pv_same2 (hs _ (fl 340 rfl)) e11 (hs _ (fl 333 rfl))
  have e12 := h 12 _ _ _ rfl
  have e34 := pv_same2 (hs _ (fl 348 rfl)) e12 (hs _ (fl 341 rfl))
  have e13 := h 13 _ _ _ rfl
  have e17 := pv_same (hs _ (fl 236 rfl)) e13 (hs _ (fl 193 rfl))
  have e40 := pv_same2 (hs _ (fl 370 rfl)) e13 (hs _ (fl 363 rfl))
  have e15 := h 14 _ _ _ rfl
  have e16 := h 15 _ _ _ rfl
  have e18 := h 16 _ _ _ rfl
  have e41 := pv_same2 (hs _ (fl 405 rfl)) e18 (hs _ (fl 396 rfl))
  have e19 := h 17 _ _ _ rfl
  have e39 := pv_same2 (hs _ (fl 395 rfl)) e19 (hs _ (fl 388 rfl))
  have e20 := h 18 _ _ _ rfl
  have e37 := pv_same2 (hs _ (fl 378 rfl)) e20 (hs _ (fl 371 rfl))
  have e21 := h 19 _ _ _ rfl
  have e38 := pv_same2 (hs _ (fl 387 rfl)) e21 (hs _ (fl 379 rfl))
  have e35 := h 20 _ _ _ rfl
  have e36 := h 21 _ _ _ rfl
  have e42 := h 22 _ _ _ rfl
  intro k q hq
  match k, hq with
  | 0, hq => cases hq; exact e0
  | 1, hq => cases hq; exact e1
  | 2, hq => cases hq; exact e2
  | 3, hq => cases hq; exact e3
  | 4, hq => cases hq; exact e4
  | 5, hq => cases hq; exact e5
  | 6, hq => cases hq; exact e6
  | 7, hq => cases hq; exact e7
  | 8, hq => cases hq; exact e8
  | 9, hq => cases hq; exact e9
  | 10, hq => cases hq; exact e10
  | 11, hq => cases hq; exact e11
  | 12, hq => cases hq; exact e12
  | 13, hq => cases hq; exact e13
  | 14, hq => cases hq; exact e14
  | 15, hq => cases hq; exact e15
  | 16, hq => cases hq; exact e16
  | 17, hq => cases hq; exact e17
  | 18, hq => cases hq; exact e18
  | 19, hq => cases hq; exact e19
  | 20, hq => cases hq; exact e20
  | 21, hq => cases hq; exact e21
  | 22, hq => cases hq; exact e22
  | 23, hq => cases hq; exact e23
  | 24, hq => cases hq; exact e24
  | 25, hq => cases hq; exact e25
  | 26, hq => cases hq; exact e26
  | 27, hq => cases hq; exact e27
  | 28, hq => cases hq; exact e28
  | 29, hq => cases hq; exact e29
  | 30, hq => cases hq; exact e30
  | 31, hq => cases hq; exact e31
  | 32, hq => cases hq; exact e32
  | 33, hq => cases hq; exact e33
  | 34, hq => cases hq; exact e34
  | 35, hq => cases hq; exact e35
  | 36, hq => cases hq; exact e36
  | 37, hq => cases hq; exact e37
  | 38, hq => cases hq; exact e38
  | 39, hq => cases hq; exact e39
  | 40, hq => cases hq; exact e40
  | 41, hq => cases hq; exact e41
  | 42, hq => cases hq; exact e42
  | k + 43, hq => cases hq
end STR
