/-! RESOLUTION TABLES: what the indices of each class stand for, and that it is so (by program) -/
def xaL : List (Nat × Nat × (Nat → Int32)) := [(1, 3, fun j => ([102, 117, 110] : List Int32).getD j 0), (1, 4, fun j => ([109, 97, 105, 110] : List Int32).getD j 0), (1, 2, fun j => ([102, 110] : List Int32).getD j 0), (1, 2, fun j => ([105, 102] : List Int32).getD j 0), (1, 4, fun j => ([116, 104, 101, 110] : List Int32).getD j 0), (1, 4, fun j => ([101, 108, 115, 101] : List Int32).getD j 0), (1, 3, fun j => ([108, 101, 116] : List Int32).getD j 0), (1, 2, fun j => ([105, 110] : List Int32).getD j 0), (1, 4, fun j => ([99, 97, 115, 101] : List Int32).getD j 0), (1, 2, fun j => ([111, 102] : List Int32).getD j 0), (1, 3, fun j => ([110, 105, 108] : List Int32).getD j 0), (1, 3, fun j => ([102, 115, 116] : List Int32).getD j 0), (1, 3, fun j => ([115, 110, 100] : List Int32).getD j 0), (1, 2, fun j => ([44, 32] : List Int32).getD j 0), (1, 4, fun j => ([123, 110, 101, 119] : List Int32).getD j 0), (1, 4, fun j => ([123, 111, 108, 100] : List Int32).getD j 0), (1, 5, fun j => ([41, 32, 45, 62, 32] : List Int32).getD j 0), (1, 3, fun j => ([105, 110, 116] : List Int32).getD j 0), (1, 3, fun j => ([32, 42, 32] : List Int32).getD j 0), (1, 4, fun j => ([32, 45, 62, 32] : List Int32).getD j 0), (1, 3, fun j => ([110, 101, 119] : List Int32).getD j 0), (1, 3, fun j => ([111, 108, 100] : List Int32).getD j 0), (1, 2, fun j => ([91, 93] : List Int32).getD j 0)]
def xaP (L : Nat) (xs : Nat → Int32) (j : Nat) : Nat × Nat × (Nat → Int32) := if j = 0 then (0, L, xs) else xaL.getD (j - 1) (11, 0, fun _ => 0)
def insP (M pc : Nat) : Option pvI := ((insOf M).find? (fun q => q.1 == pc)).map (fun q => q.2)
def PP (L : Nat) (xs : Nat → Int32) : pvP := (insP, ftP, finP, nfP, miP, xaP L xs)
def mkE (B : Nat) (sa : Nat → Nat) (xv : Nat → Value) (D : va_G) (cA : Nat → ClassId) (H0 : Heap) : pvE := (B, sa, xv, D, pcl, cA, H0)
def naL : List Nat := [2, 2, 3, 4, 5, 1, 3, 2, 0, 1, 1, 1, 0, 2, 1, 0, 1, 2, 0, 0, 0, 0, 1, 0, 1, 1, 1, 1, 2, 3, 0, 1, 0, 1, 1, 0, 0, 1, 0, 1, 1, 0, 0, 0, 0, 2, 0, 1, 1, 1, 1, 1, 1, 3, 1, 1, 2, 1, 1, 1, 2, 1, 0, 2, 0, 0, 2, 2, 4, 1, 4, 4, 3, 2, 2, 0, 1, 0, 0, 3, 0, 0, 0, 1, 1, 1, 0, 0, 2, 1, 2, 1, 1, 0, 2, 2, 1, 1, 0, 2, 1, 0, 1, 1, 0, 0, 0, 3, 0, 1, 0, 2, 1, 1, 1, 1, 1, 0, 0, 0, 0, 0, 1, 0, 0, 0, 0, 0, 0, 0, 0, 1, 0, 2, 0, 1, 0, 0, 4, 0, 4, 0, 1, 1, 2, 1, 2, 2, 3, 2, 2, 2, 1, 1, 1, 2, 1, 1, 1, 2, 5, 1, 0, 1, 2, 1, 2, 2, 2, 1, 2, 2, 2, 1, 2, 2, 1, 3, 1, 1, 2, 2, 6, 0, 1, 1, 1, 2, 0, 2, 1, 1, 1, 1, 1, 3, 1, 0, 2, 1, 2, 2, 1, 2, 3, 1, 1, 2, 1, 1, 2, 1, 1, 1, 1, 0, 0, 0, 1, 1, 3, 0, 2, 1, 1, 2, 0, 0, 2, 1, 2, 0, 1, 1, 1, 2, 1, 2, 3, 1, 1, 0, 2, 0, 1, 1, 1, 3, 0, 0, 5, 0, 1, 1, 0, 1, 0, 0, 0, 1, 1, 0, 1, 2, 1, 1, 1, 2, 0, 0, 1, 1, 1, 0, 0, 0, 1, 3, 1, 3, 3, 0, 0, 1, 0, 0, 1, 3, 1, 1, 2, 2, 1, 3, 4, 2, 2, 1, 0, 0, 0, 0, 1, 1, 1, 1, 0, 1, 1, 3, 0, 0, 0, 3, 3, 0, 1, 2, 0, 1, 0, 1, 2, 2, 3, 1, 1, 2, 1, 3, 0, 3, 1, 0, 2, 1, 1, 1, 1, 2, 2, 2, 2, 2, 2, 1, 1, 3, 1, 1, 1, 1, 1, 3, 2, 1, 3, 3, 2, 2, 2, 2, 4, 1, 1, 1, 1, 2, 2, 3, 2, 1, 0, 2, 3, 0, 1, 1, 1, 1, 2, 1, 1, 1, 1, 1, 1, 1, 1, 0, 2, 3, 2, 1, 0, 1, 2, 3, 1, 3, 2, 1, 4, 0, 0, 3, 1, 2, 0, 2, 1, 1, 1, 2, 1, 1, 1, 2, 1, 1, 1, 1, 0, 1, 2, 0, 0, 0, 2, 1, 2, 0, 0, 1, 0, 2, 2, 3, 2, 2, 2, 1]
def pv_nA (y : MethodName) (n : Nat) : Bool := match parseMethodDescriptor y.desc with
  | some sig => decide (n = sig.parameters.length)
  | none => true
theorem pv_nA_of {y : MethodName} {n : Nat} (h : pv_nA y n = true) : pv_nArgs y n := by
  intro sig e
  unfold pv_nA at h
  rw [e] at h
  simpa using h
set_option maxRecDepth 100000 in
theorem na_ok : (List.range 442).all (fun M => pv_nA (GG M).1 (naL.getD M 0)) = true := by decide +kernel
theorem pv_nn (M : Nat) (h : M < 442) : pv_nArgs (GG M).1 (naL.getD M 0) := pv_nA_of (List.all_eq_true.mp na_ok M (List.mem_range.mpr h))
set_option maxRecDepth 100000 in
theorem nfl_0 : ∀ k, k < 15 → ftP 0 k ≠ .float := by decide +kernel
set_option maxRecDepth 100000 in
theorem nfl_1 : ∀ k, k < 15 → ftP 1 k ≠ .float := by decide +kernel
set_option maxRecDepth 100000 in
theorem nfl_2 : ∀ k, k < 2 → ftP 2 k ≠ .float := by decide +kernel
set_option maxRecDepth 100000 in
theorem nfl_3 : ∀ k, k < 2 → ftP 3 k ≠ .float := by decide +kernel
set_option maxRecDepth 100000 in
theorem nfl_4 : ∀ k, k < 10 → ftP 4 k ≠ .float := by decide +kernel
set_option maxRecDepth 100000 in
theorem nfl_5 : ∀ k, k < 39 → ftP 5 k ≠ .float := by decide +kernel
set_option maxRecDepth 100000 in
theorem nfl_6 : ∀ k, k < 18 → ftP 6 k ≠ .float := by decide +kernel
set_option maxRecDepth 100000 in
theorem nfl_7 : ∀ k, k < 13 → ftP 7 k ≠ .float := by decide +kernel
set_option maxRecDepth 100000 in
theorem nfl_8 : ∀ k, k < 14 → ftP 8 k ≠ .float := by decide +kernel
set_option maxRecDepth 100000 in
theorem nfl_9 : ∀ k, k < 20 → ftP 9 k ≠ .float := by decide +kernel
set_option maxRecDepth 100000 in
theorem nfl_10 : ∀ k, k < 15 → ftP 10 k ≠ .float := by decide +kernel
set_option maxRecDepth 100000 in
theorem nfl_11 : ∀ k, k < 11 → ftP 11 k ≠ .float := by decide +kernel
set_option maxRecDepth 100000 in
theorem nfl_12 : ∀ k, k < 3 → ftP 12 k ≠ .float := by decide +kernel
set_option maxRecDepth 100000 in
theorem nfl_13 : ∀ k, k < 27 → ftP 13 k ≠ .float := by decide +kernel
set_option maxRecDepth 100000 in
theorem nfl_14 : ∀ k, k < 18 → ftP 14 k ≠ .float := by decide +kernel
set_option maxRecDepth 100000 in
theorem nfl_15 : ∀ k, k < 171 → ftP 15 k ≠ .float := by decide +kernel
set_option maxRecDepth 100000 in
theorem nfl_16 : ∀ k, k < 6 → ftP 16 k ≠ .float := by decide +kernel
set_option maxRecDepth 100000 in
theorem nfl_17 : ∀ k, k < 6 → ftP 17 k ≠ .float := by decide +kernel
set_option maxRecDepth 100000 in
theorem nfl_18 : ∀ k, k < 6 → ftP 18 k ≠ .float := by decide +kernel
set_option maxRecDepth 100000 in
theorem nfl_19 : ∀ k, k < 6 → ftP 19 k ≠ .float := by decide +kernel
def strTab : List (String × Nat × String × Nat) := [("RegionHouse$Lexemes", 11, "fun", 0), ("RegionHouse$Lexemes", 13, "main", 1), ("RegionHouse$Lexemes", 15, "fn", 2), ("RegionHouse$Lexemes", 17, "if", 3), ("RegionHouse$Lexemes", 19, "then", 4), ("RegionHouse$Lexemes", 21, "else", 5), ("RegionHouse$Lexemes", 23, "let", 6), ("RegionHouse$Lexemes", 25, "in", 7), ("RegionHouse$Lexemes", 27, "case", 8), ("RegionHouse$Lexemes", 29, "of", 9), ("RegionHouse$Lexemes", 31, "nil", 10), ("RegionHouse$Lexemes", 33, "fst", 11), ("RegionHouse$Lexemes", 35, "snd", 12), ("RegionHouse$Machine", 257, ", ", 13), ("RegionHouse$Machine", 262, "fn", 2), ("RegionHouse$Printer", 126, "{new", 14), ("RegionHouse$Printer", 146, "{old", 15), ("RegionHouse$Printer", 186, ", ", 13), ("RegionHouse$Printer", 193, ") -> ", 16), ("RegionHouse$Printer", 207, "int", 17), ("RegionHouse$Printer", 218, " * ", 18), ("RegionHouse$Printer", 220, " -> ", 19), ("RegionHouseModel", 398, "fun", 0), ("RegionHouseModel", 400, "main", 1), ("RegionHouseModel", 402, "fn", 2), ("RegionHouseModel", 404, "if", 3), ("RegionHouseModel", 406, "then", 4), ("RegionHouseModel", 408, "else", 5), ("RegionHouseModel", 410, "let", 6), ("RegionHouseModel", 412, "in", 7), ("RegionHouseModel", 414, "case", 8), ("RegionHouseModel", 416, "of", 9), ("RegionHouseModel", 418, "nil", 10), ("RegionHouseModel", 420, "fst", 11), ("RegionHouseModel", 422, "snd", 12), ("RegionHouseModel", 807, "new", 20), ("RegionHouseModel", 819, "old", 21), ("RegionHouseModel", 830, " * ", 18), ("RegionHouseModel", 832, " -> ", 19), ("RegionHouseModel", 837, "int", 17), ("RegionHouseModel", 845, ", ", 13), ("RegionHouseModel", 850, ") -> ", 16), ("RegionHouseModel", 988, "[]", 22)]
def pv_EK (E : pvE) (P : pvP) (G : pvG) (own : String) (q : Instr × Nat × Nat × Nat) (args : Array Value) (s : State) : Prop := pv_OKi E P own 0 q.1 q.2.1 q.2.2.1 q.2.2.2 args s ∧ pv_OKc E G own q.1 q.2.1 q.2.2.1 q.2.2.2 args s
/-- what the start gives for the tables -/
def pv_ST (B : Nat) (sa : Nat → Nat) (xv : Nat → Value) (H0 : Heap) (args : Array Value) (s : State) : Prop :=
  (∀ w ∈ lw_tbl, w.before args s = true) ∧ (∀ (k : Nat) q, strTab[k]? = some q → vk_R q.1 q.2.1 q.2.2.1 (sa q.2.2.2) s) ∧
  va_Z "java/lang/String" "COMPACT_STRINGS" "Z" (.int (Int32.ofNat 1)) (fun q => B ≤ q) s H0 ∧ va_Z "jdk/internal/util/Preconditions" "SIOOBE_FORMATTER" "Ljava/util/function/BiFunction;" (xv 99) (fun q => B ≤ q) s H0
section EK
variable {B : Nat} {sa : Nat → Nat} {xv : Nat → Value} {D : va_G} {cA : Nat → ClassId} {H0 : Heap} {L : Nat} {xs : Nat → Int32} {args : Array Value} {s : State} {own : String} {idx ci fk M n k : Nat} {R : String} {T : u_T} {N : Nat} {a b c : String} {f : Bool} {y : MethodName} {cb : ByteArray} {hs : List (Nat × Nat × Nat × Nat)}
theorem ek_ldc (hS : pv_ST B sa xv H0 args s) {v : Nat} (w : Jvm.Cond.constant own idx (Int32.ofNat v) ∈ lw_tbl) : pv_EK (mkE B sa xv D cA H0) (PP L xs) GG own (.ldc idx, v, 0, 0) args s := ⟨⟨fun _ => hS.1 _ w, fun h => absurd rfl h⟩, trivial⟩
theorem ek_ldcw (hS : pv_ST B sa xv H0 args s) {v : Nat} (w : Jvm.Cond.constant own idx (Int32.ofNat v) ∈ lw_tbl) : pv_EK (mkE B sa xv D cA H0) (PP L xs) GG own (.ldc_w idx, v, 0, 0) args s := ⟨⟨fun _ => hS.1 _ w, fun h => absurd rfl h⟩, trivial⟩
theorem ek_ldl (hS : pv_ST B sa xv H0 args s) {v : Nat} (w : Jvm.Cond.constantLong own idx (Int64.ofNat v) ∈ lw_tbl) : pv_EK (mkE B sa xv D cA H0) (PP L xs) GG own (.ldc2_w idx, v, 0, 0) args s := ⟨hS.1 _ w, trivial⟩
theorem ek_lds (hS : pv_ST B sa xv H0 args s) {tx : String} {v : Nat} (h : strTab[k]? = some (own, idx, tx, v)) (hv : v < 4294967296) : pv_EK (mkE B sa xv D cA H0) (PP L xs) GG own (.ldc idx, v, 0, 1) args s := ⟨⟨(fun h => by cases h), fun _ => ⟨hv, tx, hS.2.1 k _ h⟩⟩, trivial⟩
theorem ek_ldsw (hS : pv_ST B sa xv H0 args s) {tx : String} {v : Nat} (h : strTab[k]? = some (own, idx, tx, v)) (hv : v < 4294967296) : pv_EK (mkE B sa xv D cA H0) (PP L xs) GG own (.ldc_w idx, v, 0, 1) args s := ⟨⟨(fun h => by cases h), fun _ => ⟨hv, tx, hS.2.1 k _ h⟩⟩, trivial⟩
theorem ek_gs0 (hS : pv_ST B sa xv H0 args s) (w : Jvm.Cond.fieldLink own idx "java/lang/String" "value" "[B" ∈ lw_tbl) : pv_EK (mkE B sa xv D cA H0) (PP L xs) GG own (.getfield idx, 90, 0, 0) args s := ⟨Or.inl ⟨rfl, Or.inl ⟨rfl, hS.1 _ w⟩, rfl⟩, trivial⟩
theorem ek_gs1 (hS : pv_ST B sa xv H0 args s) (w : Jvm.Cond.fieldLink own idx "java/lang/String" "coder" "B" ∈ lw_tbl) : pv_EK (mkE B sa xv D cA H0) (PP L xs) GG own (.getfield idx, 90, 1, 0) args s := ⟨Or.inl ⟨rfl, Or.inr ⟨rfl, hS.1 _ w⟩, rfl⟩, trivial⟩
theorem ek_fld (hS : pv_ST B sa xv H0 args s) (hc : pcl[ci]? = some (R, T, N)) (h90 : ci < 90) (hk : fk < N) (hT : T fk = (a, b, c, f)) (w : Jvm.Cond.fieldLink own idx a b c ∈ lw_tbl) : pv_fOK (mkE B sa xv D cA H0) own idx ci fk 0 args s := by
  refine ⟨(R, T, N), hc, by omega, hk, Or.inl ⟨rfl, ?_⟩⟩
  show (Jvm.Cond.fieldLink own idx (T fk).1 (T fk).2.1 (T fk).2.2.1).before args s = true
  rw [hT]
  exact hS.1 _ w
theorem ek_fldn {host : String} (hS : pv_ST B sa xv H0 args s) (hc : pcl[ci]? = some (R, T, N)) (h90 : ci < 90) (hk : fk < N) (hT : T fk = (a, b, c, f)) (w : Jvm.Cond.fieldLinkNest own idx a b c host ∈ lw_tbl) : pv_fOK (mkE B sa xv D cA H0) own idx ci fk 1 args s := by
  refine ⟨(R, T, N), hc, by omega, hk, Or.inr ⟨rfl, host, ?_⟩⟩
  show (Jvm.Cond.fieldLinkNest own idx (T fk).1 (T fk).2.1 (T fk).2.2.1 host).before args s = true
  rw [hT]
  exact hS.1 _ w
theorem ek_get (hS : pv_ST B sa xv H0 args s) (hc : pcl[ci]? = some (R, T, N)) (h90 : ci < 90) (hk : fk < N) (hT : T fk = (a, b, c, f)) (w : Jvm.Cond.fieldLink own idx a b c ∈ lw_tbl) : pv_EK (mkE B sa xv D cA H0) (PP L xs) GG own (.getfield idx, ci, fk, 0) args s := ⟨Or.inr ⟨Nat.ne_of_lt h90, ek_fld hS hc h90 hk hT w⟩, trivial⟩
theorem ek_getn {host : String} (hS : pv_ST B sa xv H0 args s) (hc : pcl[ci]? = some (R, T, N)) (h90 : ci < 90) (hk : fk < N) (hT : T fk = (a, b, c, f)) (w : Jvm.Cond.fieldLinkNest own idx a b c host ∈ lw_tbl) : pv_EK (mkE B sa xv D cA H0) (PP L xs) GG own (.getfield idx, ci, fk, 1) args s := ⟨Or.inr ⟨Nat.ne_of_lt h90, ek_fldn hS hc h90 hk hT w⟩, trivial⟩
theorem ek_put (hS : pv_ST B sa xv H0 args s) (hc : pcl[ci]? = some (R, T, N)) (h90 : ci < 90) (hk : fk < N) (hT : T fk = (a, b, c, f)) (hf : finP ci fk = false) (w : Jvm.Cond.fieldLink own idx a b c ∈ lw_tbl) : pv_EK (mkE B sa xv D cA H0) (PP L xs) GG own (.putfield idx, ci, fk, 0) args s := ⟨⟨ek_fld hS hc h90 hk hT w, Or.inl hf⟩, trivial⟩
theorem ek_putn {host : String} (hS : pv_ST B sa xv H0 args s) (hc : pcl[ci]? = some (R, T, N)) (h90 : ci < 90) (hk : fk < N) (hT : T fk = (a, b, c, f)) (hf : finP ci fk = false) (w : Jvm.Cond.fieldLinkNest own idx a b c host ∈ lw_tbl) : pv_EK (mkE B sa xv D cA H0) (PP L xs) GG own (.putfield idx, ci, fk, 1) args s := ⟨⟨ek_fldn hS hc h90 hk hT w, Or.inl hf⟩, trivial⟩
theorem ek_putf (hS : pv_ST B sa xv H0 args s) (hc : pcl[ci]? = some (R, T, N)) (h90 : ci < 90) (hk : fk < N) (hT : T fk = (a, b, c, f)) (ho : a = own) (w : Jvm.Cond.fieldLink own idx a b c ∈ lw_tbl) : pv_EK (mkE B sa xv D cA H0) (PP L xs) GG own (.putfield idx, ci, fk, 0) args s := by
  refine ⟨⟨ek_fld hS hc h90 hk hT w, Or.inr ⟨rfl, fun r hr => ?_⟩⟩, trivial⟩
  have e1 : r = (R, T, N) := Option.some.inj (hr.symm.trans hc)
  rw [e1]
  show (T fk).1 = own
  rw [hT]
  exact ho
theorem ek_z1 (hS : pv_ST B sa xv H0 args s) (w : Jvm.Cond.fieldLink own idx "java/lang/String" "COMPACT_STRINGS" "Z" ∈ lw_tbl) : pv_EK (mkE B sa xv D cA H0) (PP L xs) GG own (.getstatic idx, 1, 0, 0) args s := ⟨⟨_, _, _, hS.1 _ w, fun _ => hS.2.2.1, fun h => absurd rfl h⟩, trivial⟩
theorem ek_z2 (hS : pv_ST B sa xv H0 args s) (w : Jvm.Cond.fieldLink own idx "jdk/internal/util/Preconditions" "SIOOBE_FORMATTER" "Ljava/util/function/BiFunction;" ∈ lw_tbl) : pv_EK (mkE B sa xv D cA H0) (PP L xs) GG own (.getstatic idx, 99, 0, 1) args s := ⟨⟨_, _, _, hS.1 _ w, (fun h => by cases h), fun _ => hS.2.2.2⟩, trivial⟩
theorem ek_new4 : pv_EK (mkE B sa xv D cA H0) (PP L xs) GG own (.new idx, ci, 0, 4) args s := ⟨fun h => absurd rfl h, trivial⟩
theorem ek_new (hS : pv_ST B sa xv H0 args s) (hc : pcl[ci]? = some (R, T, N)) (h90 : ci < 90) (hfl : ∀ k, k < N → ftP ci k ≠ .float) (w1 : Jvm.Cond.classLink own idx R ∈ lw_tbl) (w2 : Jvm.Cond.instantiable R N ∈ lw_tbl) (w3 : Jvm.Cond.initialized R ∈ lw_tbl) : pv_EK (mkE B sa xv D cA H0) (PP L xs) GG own (.new idx, ci, 0, 0) args s :=
  ⟨fun _ => ⟨(R, T, N), hc, by show ci < 990; omega, hfl, hS.1 _ w1, hS.1 _ w2, hS.1 _ w3⟩, trivial⟩
theorem ek_newa (hS : pv_ST B sa xv H0 args s) {t : ArrayType} (w : Jvm.Cond.arrayClass (newarray.typeOf t) ∈ lw_tbl) : pv_EK (mkE B sa xv D cA H0) (PP L xs) GG own (.newarray t, 0, 0, 0) args s := ⟨hS.1 _ w, trivial⟩
theorem ek_anew (hS : pv_ST B sa xv H0 args s) (w1 : Jvm.Cond.classLink own idx "java/lang/String" ∈ lw_tbl) (w2 : Jvm.Cond.arrayOver (.object "java/lang/String") ∈ lw_tbl) : pv_EK (mkE B sa xv D cA H0) (PP L xs) GG own (.anewarray idx, 0, 0, 0) args s := ⟨⟨hS.1 _ w1, hS.1 _ w2⟩, trivial⟩
theorem ek_iv (hS : pv_ST B sa xv H0 args s) (hg : GG M = (y, cb, hs)) (hn : naL.getD M 0 = n) (hM : M < 442) (hc : pcl[ci]? = some (R, T, N)) (h90 : ci < 90) (w1 : Jvm.Cond.methodLink own idx y ∈ lw_tbl) (w2 : Jvm.Cond.instanceMethod y ∈ lw_tbl) (w3 : Jvm.Cond.selects R y y ∈ lw_tbl) : pv_EK (mkE B sa xv D cA H0) (PP L xs) GG own (.invokevirtual idx, M, n + 1, ci) args s := by
  refine ⟨trivial, ?_⟩
  show pv_nArgs (GG M).1 (n + 1 - 1) ∧ _
  have h1 := pv_nn M hM
  rw [hn] at h1
  refine ⟨h1, ?_⟩
  rw [hg]
  exact ⟨hS.1 _ w1, hS.1 _ w2, Or.inr ⟨h90, (R, T, N), hc, hS.1 _ w3⟩⟩
theorem ek_ivs (hS : pv_ST B sa xv H0 args s) (hg : GG M = (y, cb, hs)) (hn : naL.getD M 0 = n) (hM : M < 442) (w1 : Jvm.Cond.methodLink own idx y ∈ lw_tbl) (w2 : Jvm.Cond.instanceMethod y ∈ lw_tbl) (w3 : Jvm.Cond.selects "java/lang/String" y y ∈ lw_tbl) : pv_EK (mkE B sa xv D cA H0) (PP L xs) GG own (.invokevirtual idx, M, n + 1, 90) args s := by
  refine ⟨trivial, ?_⟩
  show pv_nArgs (GG M).1 (n + 1 - 1) ∧ _
  have h1 := pv_nn M hM
  rw [hn] at h1
  refine ⟨h1, ?_⟩
  rw [hg]
  exact ⟨hS.1 _ w1, hS.1 _ w2, Or.inl ⟨rfl, hS.1 _ w3, rfl⟩⟩
theorem ek_is (hS : pv_ST B sa xv H0 args s) (hg : GG M = (y, cb, hs)) (hn : naL.getD M 0 = n) (hM : M < 442) (w1 : Jvm.Cond.methodLink own idx y ∈ lw_tbl) (w2 : Jvm.Cond.static y ∈ lw_tbl) : pv_EK (mkE B sa xv D cA H0) (PP L xs) GG own (.invokestatic idx, M, n, 0) args s := by
  refine ⟨fun h => absurd rfl h, fun _ => ?_⟩
  have h1 := pv_nn M hM
  rw [hn] at h1
  refine ⟨h1, ?_⟩
  show (Jvm.Cond.methodLink own idx (GG M).1).before args s = true ∧ (Jvm.Cond.static (GG M).1).before args s = true
  rw [hg]
  exact ⟨hS.1 _ w1, hS.1 _ w2⟩
theorem ek_copy (hS : pv_ST B sa xv H0 args s) (w1 : Jvm.Cond.methodLink own idx arraycopyName ∈ lw_tbl) (w2 : Jvm.Cond.native arraycopyName ∈ lw_tbl) (w3 : Jvm.Cond.static arraycopyName ∈ lw_tbl) (w4 : Jvm.Cond.initialized "java/lang/System" ∈ lw_tbl) : pv_EK (mkE B sa xv D cA H0) (PP L xs) GG own (.invokestatic idx, 0, 0, 1) args s := ⟨fun _ => ⟨hS.1 _ w1, hS.1 _ w2, hS.1 _ w3, hS.1 _ w4⟩, (fun h => by cases h)⟩
theorem ek_obj (hS : pv_ST B sa xv H0 args s) (w1 : Jvm.Cond.methodLink own idx Lib.objectInit ∈ lw_tbl) (w2 : Jvm.Cond.instanceMethod Lib.objectInit ∈ lw_tbl) (w3 : Jvm.Cond.code Lib.objectInit ⟨#[0xb1]⟩ 1 none ∈ lw_tbl) : pv_EK (mkE B sa xv D cA H0) (PP L xs) GG own (.invokespecial idx, 0, 0, 2) args s := ⟨fun _ => ⟨hS.1 _ w1, hS.1 _ w2, hS.1 _ w3⟩, fun h => absurd rfl h⟩
theorem ek_ii (hS : pv_ST B sa xv H0 args s) (hg : GG M = (y, cb, [])) (hn : naL.getD M 0 = n) (hM : M < 442) (hy : y.name = "<init>") (w2 : Jvm.Cond.instanceMethod y ∈ lw_tbl) (w1 : Jvm.Cond.methodLink own idx y ∈ lw_tbl) : pv_EK (mkE B sa xv D cA H0) (PP L xs) GG own (.invokespecial idx, M, n + 1, 0) args s := by
  refine ⟨(fun h => by cases h), fun _ => ?_⟩
  have h1 := pv_nn M hM
  rw [hn] at h1
  refine ⟨h1, ?_⟩
  show (GG M).1.name = "<init>" ∧ (GG M).2.2 = [] ∧ (Jvm.Cond.instanceMethod (GG M).1).before args s = true ∧ (((0 : Nat) = 0 ∧ (Jvm.Cond.methodLink own idx (GG M).1).before args s = true) ∨ _)
  rw [hg]
  exact ⟨hy, rfl, hS.1 _ w2, Or.inl ⟨rfl, hS.1 _ w1⟩⟩
theorem ek_iin {host : String} (hS : pv_ST B sa xv H0 args s) (hg : GG M = (y, cb, [])) (hn : naL.getD M 0 = n) (hM : M < 442) (hy : y.name = "<init>") (w2 : Jvm.Cond.instanceMethod y ∈ lw_tbl) (w1 : Jvm.Cond.methodLinkNest own idx y host ∈ lw_tbl) : pv_EK (mkE B sa xv D cA H0) (PP L xs) GG own (.invokespecial idx, M, n + 1, 1) args s := by
  refine ⟨(fun h => by cases h), fun _ => ?_⟩
  have h1 := pv_nn M hM
  rw [hn] at h1
  refine ⟨h1, ?_⟩
  show (GG M).1.name = "<init>" ∧ (GG M).2.2 = [] ∧ (Jvm.Cond.instanceMethod (GG M).1).before args s = true ∧ (_ ∨ ((1 : Nat) = 1 ∧ ∃ host : String, (Jvm.Cond.methodLinkNest own idx (GG M).1 host).before args s = true))
  rw [hg]
  exact ⟨hy, rfl, hS.1 _ w2, Or.inr ⟨rfl, host, hS.1 _ w1⟩⟩
end EK

